/-! the code tables against the bytes, by program (gen13.py) -/
theorem ck_m_thingIs : ga_ckM (am_FL fl_m) (am_ML ml_m) (am_GS gs_m) (am_GS lc_m) am_G 3 prog_11_method_137_code cd_m_thingIs 21 = true := by decide +kernel
theorem ck_m_tested_0 : ga_ckR (fun pc => ga_ckI (am_FL fl_m) (am_ML ml_m) (am_GS gs_m) (am_GS lc_m) am_G 9 prog_11_method_138_code pc (cd_m_tested pc)) 0 150 = true := by decide +kernel
theorem ck_m_tested_150 : ga_ckR (fun pc => ga_ckI (am_FL fl_m) (am_ML ml_m) (am_GS gs_m) (am_GS lc_m) am_G 9 prog_11_method_138_code pc (cd_m_tested pc)) 150 300 = true := by decide +kernel
theorem ck_m_tested_300 : ga_ckR (fun pc => ga_ckI (am_FL fl_m) (am_ML ml_m) (am_GS gs_m) (am_GS lc_m) am_G 9 prog_11_method_138_code pc (cd_m_tested pc)) 300 305 = true := by decide +kernel
theorem ck_m_tested : ga_ckM (am_FL fl_m) (am_ML ml_m) (am_GS gs_m) (am_GS lc_m) am_G 9 prog_11_method_138_code cd_m_tested 305 = true := ga_ckR_all (ga_ckR_cat (ga_ckR_cat (ck_m_tested_0) ck_m_tested_150) ck_m_tested_300)
theorem ck_m_put : ga_ckM (am_FL fl_m) (am_ML ml_m) (am_GS gs_m) (am_GS lc_m) am_G 2 prog_11_method_139_code cd_m_put 39 = true := by decide +kernel
theorem ck_m_letterOf : ga_ckM (am_FL fl_m) (am_ML ml_m) (am_GS gs_m) (am_GS lc_m) am_G 4 prog_11_method_140_code cd_m_letterOf 51 = true := by decide +kernel
theorem ck_m_byteOf : ga_ckM (am_FL fl_m) (am_ML ml_m) (am_GS gs_m) (am_GS lc_m) am_G 7 prog_11_method_141_code cd_m_byteOf 133 = true := by decide +kernel
theorem ck_m_putLex : ga_ckM (am_FL fl_m) (am_ML ml_m) (am_GS gs_m) (am_GS lc_m) am_G 3 prog_11_method_142_code cd_m_putLex 34 = true := by decide +kernel
theorem ck_m_putNumber : ga_ckM (am_FL fl_m) (am_ML ml_m) (am_GS gs_m) (am_GS lc_m) am_G 4 prog_11_method_143_code cd_m_putNumber 59 = true := by decide +kernel
theorem ck_m_foundIn : ga_ckM (am_FL fl_m) (am_ML ml_m) (am_GS gs_m) (am_GS lc_m) am_G 4 prog_11_method_144_code cd_m_foundIn 91 = true := by decide +kernel
theorem ck_m_insideThing : ga_ckM (am_FL fl_m) (am_ML ml_m) (am_GS gs_m) (am_GS lc_m) am_G 5 prog_11_method_145_code cd_m_insideThing 172 = true := by decide +kernel
theorem ck_m_saysInside : ga_ckM (am_FL fl_m) (am_ML ml_m) (am_GS gs_m) (am_GS lc_m) am_G 8 prog_11_method_146_code cd_m_saysInside 251 = true := by decide +kernel
theorem ck_m_putProperty : ga_ckM (am_FL fl_m) (am_ML ml_m) (am_GS gs_m) (am_GS lc_m) am_G 6 prog_11_method_147_code cd_m_putProperty 89 = true := by decide +kernel
theorem ck_m_words : ga_ckM (am_FL fl_m) (am_ML ml_m) (am_GS gs_m) (am_GS lc_m) am_G 5 prog_11_method_148_code cd_m_words 152 = true := by decide +kernel
theorem ck_m_written : ga_ckM (am_FL fl_m) (am_ML ml_m) (am_GS gs_m) (am_GS lc_m) am_G 5 prog_11_method_149_code cd_m_written 79 = true := by decide +kernel
theorem ck_m_says : ga_ckM (am_FL fl_m) (am_ML ml_m) (am_GS gs_m) (am_GS lc_m) am_G 5 prog_11_method_150_code cd_m_says 26 = true := by decide +kernel
theorem ck_m_leadsTo : ga_ckM (am_FL fl_m) (am_ML ml_m) (am_GS gs_m) (am_GS lc_m) am_G 4 prog_11_method_151_code cd_m_leadsTo 90 = true := by decide +kernel
theorem ck_m_orderClass : ga_ckM (am_FL fl_m) (am_ML ml_m) (am_GS gs_m) (am_GS lc_m) am_G 2 prog_11_method_152_code cd_m_orderClass 30 = true := by decide +kernel
theorem ck_m_depthOf : ga_ckM (am_FL fl_m) (am_ML ml_m) (am_GS gs_m) (am_GS lc_m) am_G 4 prog_11_method_153_code cd_m_depthOf 23 = true := by decide +kernel
theorem ck_m_isAhead : ga_ckM (am_FL fl_m) (am_ML ml_m) (am_GS gs_m) (am_GS lc_m) am_G 3 prog_11_method_154_code cd_m_isAhead 187 = true := by decide +kernel
theorem ck_m_orderOf : ga_ckM (am_FL fl_m) (am_ML ml_m) (am_GS gs_m) (am_GS lc_m) am_G 4 prog_11_method_155_code cd_m_orderOf 57 = true := by decide +kernel
theorem ck_m_ruleAt : ga_ckM (am_FL fl_m) (am_ML ml_m) (am_GS gs_m) (am_GS lc_m) am_G 4 prog_11_method_156_code cd_m_ruleAt 39 = true := by decide +kernel
theorem ck_m_applies : ga_ckM (am_FL fl_m) (am_ML ml_m) (am_GS gs_m) (am_GS lc_m) am_G 6 prog_11_method_157_code cd_m_applies 183 = true := by decide +kernel
theorem ck_m_nows_0 : ga_ckR (fun pc => ga_ckI (am_FL fl_m) (am_ML ml_m) (am_GS gs_m) (am_GS lc_m) am_G 7 prog_11_method_158_code pc (cd_m_nows pc)) 0 150 = true := by decide +kernel
theorem ck_m_nows_150 : ga_ckR (fun pc => ga_ckI (am_FL fl_m) (am_ML ml_m) (am_GS gs_m) (am_GS lc_m) am_G 7 prog_11_method_158_code pc (cd_m_nows pc)) 150 300 = true := by decide +kernel
theorem ck_m_nows_300 : ga_ckR (fun pc => ga_ckI (am_FL fl_m) (am_ML ml_m) (am_GS gs_m) (am_GS lc_m) am_G 7 prog_11_method_158_code pc (cd_m_nows pc)) 300 418 = true := by decide +kernel
theorem ck_m_nows : ga_ckM (am_FL fl_m) (am_ML ml_m) (am_GS gs_m) (am_GS lc_m) am_G 7 prog_11_method_158_code cd_m_nows 418 = true := ga_ckR_all (ga_ckR_cat (ga_ckR_cat (ck_m_nows_0) ck_m_nows_150) ck_m_nows_300)
theorem ck_m_moves : ga_ckM (am_FL fl_m) (am_ML ml_m) (am_GS gs_m) (am_GS lc_m) am_G 3 prog_11_method_159_code cd_m_moves 93 = true := by decide +kernel
theorem ck_m_adds : ga_ckM (am_FL fl_m) (am_ML ml_m) (am_GS gs_m) (am_GS lc_m) am_G 7 prog_11_method_160_code cd_m_adds 75 = true := by decide +kernel
theorem ck_m_tries : ga_ckM (am_FL fl_m) (am_ML ml_m) (am_GS gs_m) (am_GS lc_m) am_G 6 prog_11_method_161_code cd_m_tries 83 = true := by decide +kernel
theorem ck_m_runs : ga_ckM (am_FL fl_m) (am_ML ml_m) (am_GS gs_m) (am_GS lc_m) am_G 6 prog_11_method_162_code cd_m_runs 246 = true := by decide +kernel
theorem ck_m_isHeld : ga_ckM (am_FL fl_m) (am_ML ml_m) (am_GS gs_m) (am_GS lc_m) am_G 2 prog_11_method_163_code cd_m_isHeld 35 = true := by decide +kernel
theorem ck_m_does2 : ga_ckM (am_FL fl_m) (am_ML ml_m) (am_GS gs_m) (am_GS lc_m) am_G 4 prog_11_method_164_code cd_m_does2 210 = true := by decide +kernel
theorem ck_m_action : ga_ckM (am_FL fl_m) (am_ML ml_m) (am_GS gs_m) (am_GS lc_m) am_G 7 prog_11_method_165_code cd_m_action 222 = true := by decide +kernel
theorem ck_m_act : ga_ckM (am_FL fl_m) (am_ML ml_m) (am_GS gs_m) (am_GS lc_m) am_G 8 prog_11_method_166_code cd_m_act 187 = true := by decide +kernel

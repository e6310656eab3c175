/-! the code tables against the bytes, by program (gen13.py) -/
theorem ck_m_isSaid : ga_ckM (am_FL fl_m) (am_ML ml_m) (am_GS gs_m) (am_GS lc_m) am_G 3 prog_11_method_167_code cd_m_isSaid 121 = true := by decide +kernel
theorem ck_m_fitsCommand : ga_ckM (am_FL fl_m) (am_ML ml_m) (am_GS gs_m) (am_GS lc_m) am_G 9 prog_11_method_168_code cd_m_fitsCommand 288 = true := by decide +kernel
theorem ck_m_command : ga_ckM (am_FL fl_m) (am_ML ml_m) (am_GS gs_m) (am_GS lc_m) am_G 3 prog_11_method_169_code cd_m_command 56 = true := by decide +kernel
theorem ck_m_told : ga_ckM (am_FL fl_m) (am_ML ml_m) (am_GS gs_m) (am_GS lc_m) am_G 2 prog_11_method_170_code cd_m_told 117 = true := by decide +kernel
theorem ck_m_name3 : ga_ckM (am_FL fl_m) (am_ML ml_m) (am_GS gs_m) (am_GS lc_m) am_G 7 prog_11_method_171_code cd_m_name3 176 = true := by decide +kernel
theorem ck_m_kind : ga_ckM (am_FL fl_m) (am_ML ml_m) (am_GS gs_m) (am_GS lc_m) am_G 5 prog_11_method_172_code cd_m_kind 129 = true := by decide +kernel
theorem ck_m_object : ga_ckM (am_FL fl_m) (am_ML ml_m) (am_GS gs_m) (am_GS lc_m) am_G 3 prog_11_method_173_code cd_m_object 74 = true := by decide +kernel
theorem ck_m_is : ga_ckM (am_FL fl_m) (am_ML ml_m) (am_GS gs_m) (am_GS lc_m) am_G 3 prog_11_method_174_code cd_m_is 65 = true := by decide +kernel
theorem ck_m_isProperty : ga_ckM (am_FL fl_m) (am_ML ml_m) (am_GS gs_m) (am_GS lc_m) am_G 3 prog_11_method_175_code cd_m_isProperty 48 = true := by decide +kernel
theorem ck_m_property2 : ga_ckM (am_FL fl_m) (am_ML ml_m) (am_GS gs_m) (am_GS lc_m) am_G 4 prog_11_method_176_code cd_m_property2 37 = true := by decide +kernel
theorem ck_m_letter : ga_ckM (am_FL fl_m) (am_ML ml_m) (am_GS gs_m) (am_GS lc_m) am_G 5 prog_11_method_177_code cd_m_letter 61 = true := by decide +kernel
theorem ck_m_leads : ga_ckM (am_FL fl_m) (am_ML ml_m) (am_GS gs_m) (am_GS lc_m) am_G 3 prog_11_method_178_code cd_m_leads 34 = true := by decide +kernel
theorem ck_m_related : ga_ckM (am_FL fl_m) (am_ML ml_m) (am_GS gs_m) (am_GS lc_m) am_G 4 prog_11_method_179_code cd_m_related 68 = true := by decide +kernel
theorem ck_m_rule2 : ga_ckM (am_FL fl_m) (am_ML ml_m) (am_GS gs_m) (am_GS lc_m) am_G 3 prog_11_method_180_code cd_m_rule2 121 = true := by decide +kernel
theorem ck_m_outs : ga_ckM (am_FL fl_m) (am_ML ml_m) (am_GS gs_m) (am_GS lc_m) am_G 1 prog_11_method_181_code cd_m_outs 5 = true := by decide +kernel
theorem ck_m_out : ga_ckM (am_FL fl_m) (am_ML ml_m) (am_GS gs_m) (am_GS lc_m) am_G 2 prog_11_method_182_code cd_m_out 29 = true := by decide +kernel
theorem ck_m_clear : ga_ckM (am_FL fl_m) (am_ML ml_m) (am_GS gs_m) (am_GS lc_m) am_G 2 prog_11_method_183_code cd_m_clear 12 = true := by decide +kernel

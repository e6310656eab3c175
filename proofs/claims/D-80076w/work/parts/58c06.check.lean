/-! the code tables against the bytes, by program (gen13.py) -/
theorem ck_u_say : ga_ckM (am_FL fl_u) (am_ML ml_u) (am_GS gs_u) (am_GS lc_u) am_G 6 prog_7_method_14_code cd_u_say 104 = true := by decide +kernel
theorem ck_u_thingAt : ga_ckM (am_FL fl_u) (am_ML ml_u) (am_GS gs_u) (am_GS lc_u) am_G 5 prog_7_method_15_code cd_u_thingAt 72 = true := by decide +kernel
theorem ck_u_bracket : ga_ckM (am_FL fl_u) (am_ML ml_u) (am_GS gs_u) (am_GS lc_u) am_G 7 prog_7_method_16_code cd_u_bracket 133 = true := by decide +kernel
theorem ck_u_applies : ga_ckM (am_FL fl_u) (am_ML ml_u) (am_GS gs_u) (am_GS lc_u) am_G 6 prog_7_method_17_code cd_u_applies 143 = true := by decide +kernel
theorem ck_u_follow : ga_ckM (am_FL fl_u) (am_ML ml_u) (am_GS gs_u) (am_GS lc_u) am_G 4 prog_7_method_18_code cd_u_follow 89 = true := by decide +kernel
theorem ck_u_narrow : ga_ckM (am_FL fl_u) (am_ML ml_u) (am_GS gs_u) (am_GS lc_u) am_G 2 prog_7_method_19_code cd_u_narrow 50 = true := by decide +kernel
theorem ck_u_isAhead : ga_ckM (am_FL fl_u) (am_ML ml_u) (am_GS gs_u) (am_GS lc_u) am_G 7 prog_7_method_20_code cd_u_isAhead 101 = true := by decide +kernel
theorem ck_u_placeOf : ga_ckM (am_FL fl_u) (am_ML ml_u) (am_GS gs_u) (am_GS lc_u) am_G 4 prog_7_method_21_code cd_u_placeOf 72 = true := by decide +kernel
theorem ck_u_arrange : ga_ckM (am_FL fl_u) (am_ML ml_u) (am_GS gs_u) (am_GS lc_u) am_G 2 prog_7_method_22_code cd_u_arrange 85 = true := by decide +kernel
theorem ck_u_action : ga_ckM (am_FL fl_u) (am_ML ml_u) (am_GS gs_u) (am_GS lc_u) am_G 4 prog_7_method_23_code cd_u_action 29 = true := by decide +kernel
theorem ck_u_act : ga_ckM (am_FL fl_u) (am_ML ml_u) (am_GS gs_u) (am_GS lc_u) am_G 5 prog_7_method_24_code cd_u_act 216 = true := by decide +kernel
theorem ck_u_isDone : ga_ckM (am_FL fl_u) (am_ML ml_u) (am_GS gs_u) (am_GS lc_u) am_G 5 prog_7_method_25_code cd_u_isDone 222 = true := by decide +kernel
theorem ck_u_turn : ga_ckM (am_FL fl_u) (am_ML ml_u) (am_GS gs_u) (am_GS lc_u) am_G 6 prog_7_method_26_code cd_u_turn 105 = true := by decide +kernel
theorem ck_q_clear : ga_ckM (am_FL fl_q) (am_ML ml_q) (am_GS gs_q) (am_GS lc_q) am_G 1 prog_3_method_2_code cd_q_clear 36 = true := by decide +kernel
theorem ck_k_isArticle : ga_ckM (am_FL fl_k) (am_ML ml_k) (am_GS gs_k) (am_GS lc_k) am_G 1 prog_5_method_4_code cd_k_isArticle 34 = true := by decide +kernel
theorem ck_m_keys : ga_ckM (am_FL fl_m) (am_ML ml_m) (am_GS gs_m) (am_GS lc_m) am_G 0 prog_11_method_1_code cd_m_keys 3 = true := by decide +kernel
theorem ck_m_in : ga_ckM (am_FL fl_m) (am_ML ml_m) (am_GS gs_m) (am_GS lc_m) am_G 3 prog_11_method_3_code cd_m_in 16 = true := by decide +kernel
theorem ck_m_small : ga_ckM (am_FL fl_m) (am_ML ml_m) (am_GS gs_m) (am_GS lc_m) am_G 1 prog_11_method_4_code cd_m_small 20 = true := by decide +kernel
theorem ck_m_isLetter : ga_ckM (am_FL fl_m) (am_ML ml_m) (am_GS gs_m) (am_GS lc_m) am_G 1 prog_11_method_5_code cd_m_isLetter 12 = true := by decide +kernel
theorem ck_m_feed : ga_ckM (am_FL fl_m) (am_ML ml_m) (am_GS gs_m) (am_GS lc_m) am_G 5 prog_11_method_6_code cd_m_feed 74 = true := by decide +kernel
theorem ck_m_wipe : ga_ckM (am_FL fl_m) (am_ML ml_m) (am_GS gs_m) (am_GS lc_m) am_G 2 prog_11_method_7_code cd_m_wipe 12 = true := by decide +kernel
theorem ck_m_keyOf : ga_ckM (am_FL fl_m) (am_ML ml_m) (am_GS gs_m) (am_GS lc_m) am_G 4 prog_11_method_8_code cd_m_keyOf 32 = true := by decide +kernel
theorem ck_m_wordOf : ga_ckM (am_FL fl_m) (am_ML ml_m) (am_GS gs_m) (am_GS lc_m) am_G 6 prog_11_method_9_code cd_m_wordOf 37 = true := by decide +kernel
theorem ck_m_blanks : ga_ckM (am_FL fl_m) (am_ML ml_m) (am_GS gs_m) (am_GS lc_m) am_G 5 prog_11_method_10_code cd_m_blanks 150 = true := by decide +kernel
theorem ck_m_cut_0 : ga_ckR (fun pc => ga_ckI (am_FL fl_m) (am_ML ml_m) (am_GS gs_m) (am_GS lc_m) am_G 7 prog_11_method_11_code pc (cd_m_cut pc)) 0 150 = true := by decide +kernel
theorem ck_m_cut_150 : ga_ckR (fun pc => ga_ckI (am_FL fl_m) (am_ML ml_m) (am_GS gs_m) (am_GS lc_m) am_G 7 prog_11_method_11_code pc (cd_m_cut pc)) 150 300 = true := by decide +kernel
theorem ck_m_cut_300 : ga_ckR (fun pc => ga_ckI (am_FL fl_m) (am_ML ml_m) (am_GS gs_m) (am_GS lc_m) am_G 7 prog_11_method_11_code pc (cd_m_cut pc)) 300 450 = true := by decide +kernel
theorem ck_m_cut_450 : ga_ckR (fun pc => ga_ckI (am_FL fl_m) (am_ML ml_m) (am_GS gs_m) (am_GS lc_m) am_G 7 prog_11_method_11_code pc (cd_m_cut pc)) 450 457 = true := by decide +kernel
theorem ck_m_cut : ga_ckM (am_FL fl_m) (am_ML ml_m) (am_GS gs_m) (am_GS lc_m) am_G 7 prog_11_method_11_code cd_m_cut 457 = true := ga_ckR_all (ga_ckR_cat (ga_ckR_cat (ga_ckR_cat (ck_m_cut_0) ck_m_cut_150) ck_m_cut_300) ck_m_cut_450)
theorem ck_m_find : ga_ckM (am_FL fl_m) (am_ML ml_m) (am_GS gs_m) (am_GS lc_m) am_G 9 prog_11_method_12_code cd_m_find 115 = true := by decide +kernel
theorem ck_m_mean : ga_ckM (am_FL fl_m) (am_ML ml_m) (am_GS gs_m) (am_GS lc_m) am_G 3 prog_11_method_13_code cd_m_mean 60 = true := by decide +kernel
theorem ck_m_means : ga_ckM (am_FL fl_m) (am_ML ml_m) (am_GS gs_m) (am_GS lc_m) am_G 5 prog_11_method_14_code cd_m_means 37 = true := by decide +kernel
theorem ck_m_tell : ga_ckM (am_FL fl_m) (am_ML ml_m) (am_GS gs_m) (am_GS lc_m) am_G 10 prog_11_method_15_code cd_m_tell 94 = true := by decide +kernel
theorem ck_m_tellTokens : ga_ckM (am_FL fl_m) (am_ML ml_m) (am_GS gs_m) (am_GS lc_m) am_G 5 prog_11_method_16_code cd_m_tellTokens 51 = true := by decide +kernel

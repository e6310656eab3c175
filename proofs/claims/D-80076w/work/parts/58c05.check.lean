/-! the code tables against the bytes, by program (gen13.py) -/
theorem ck_r_otherwise : ga_ckM (am_FL fl_r) (am_ML ml_r) (am_GS gs_r) (am_GS lc_r) am_G 2 prog_2_method_74_code cd_r_otherwise 8 = true := by decide +kernel
theorem ck_r_hold : ga_ckM (am_FL fl_r) (am_ML ml_r) (am_GS gs_r) (am_GS lc_r) am_G 4 prog_2_method_75_code cd_r_hold 42 = true := by decide +kernel
theorem ck_r_set : ga_ckM (am_FL fl_r) (am_ML ml_r) (am_GS gs_r) (am_GS lc_r) am_G 8 prog_2_method_76_code cd_r_set 196 = true := by decide +kernel
theorem ck_r_tell : ga_ckM (am_FL fl_r) (am_ML ml_r) (am_GS gs_r) (am_GS lc_r) am_G 5 prog_2_method_77_code cd_r_tell 24 = true := by decide +kernel
theorem ck_r_pluralWithS : ga_ckM (am_FL fl_r) (am_ML ml_r) (am_GS gs_r) (am_GS lc_r) am_G 4 prog_2_method_78_code cd_r_pluralWithS 42 = true := by decide +kernel
theorem ck_r_objectFor : ga_ckM (am_FL fl_r) (am_ML ml_r) (am_GS gs_r) (am_GS lc_r) am_G 4 prog_2_method_79_code cd_r_objectFor 40 = true := by decide +kernel
theorem ck_r_ofKind : ga_ckM (am_FL fl_r) (am_ML ml_r) (am_GS gs_r) (am_GS lc_r) am_G 4 prog_2_method_80_code cd_r_ofKind 52 = true := by decide +kernel
theorem ck_r_putThere : ga_ckM (am_FL fl_r) (am_ML ml_r) (am_GS gs_r) (am_GS lc_r) am_G 3 prog_2_method_81_code cd_r_putThere 104 = true := by decide +kernel
theorem ck_r_act_0 : ga_ckR (fun pc => ga_ckI (am_FL fl_r) (am_ML ml_r) (am_GS gs_r) (am_GS lc_r) am_G 5 prog_2_method_82_code pc (cd_r_act pc)) 0 150 = true := by decide +kernel
theorem ck_r_act_150 : ga_ckR (fun pc => ga_ckI (am_FL fl_r) (am_ML ml_r) (am_GS gs_r) (am_GS lc_r) am_G 5 prog_2_method_82_code pc (cd_r_act pc)) 150 300 = true := by decide +kernel
theorem ck_r_act_300 : ga_ckR (fun pc => ga_ckI (am_FL fl_r) (am_ML ml_r) (am_GS gs_r) (am_GS lc_r) am_G 5 prog_2_method_82_code pc (cd_r_act pc)) 300 450 = true := by decide +kernel
theorem ck_r_act_450 : ga_ckR (fun pc => ga_ckI (am_FL fl_r) (am_ML ml_r) (am_GS gs_r) (am_GS lc_r) am_G 5 prog_2_method_82_code pc (cd_r_act pc)) 450 600 = true := by decide +kernel
theorem ck_r_act_600 : ga_ckR (fun pc => ga_ckI (am_FL fl_r) (am_ML ml_r) (am_GS gs_r) (am_GS lc_r) am_G 5 prog_2_method_82_code pc (cd_r_act pc)) 600 750 = true := by decide +kernel
theorem ck_r_act_750 : ga_ckR (fun pc => ga_ckI (am_FL fl_r) (am_ML ml_r) (am_GS gs_r) (am_GS lc_r) am_G 5 prog_2_method_82_code pc (cd_r_act pc)) 750 761 = true := by decide +kernel
theorem ck_r_act : ga_ckM (am_FL fl_r) (am_ML ml_r) (am_GS gs_r) (am_GS lc_r) am_G 5 prog_2_method_82_code cd_r_act 761 = true := ga_ckR_all (ga_ckR_cat (ga_ckR_cat (ga_ckR_cat (ga_ckR_cat (ga_ckR_cat (ck_r_act_0) ck_r_act_150) ck_r_act_300) ck_r_act_450) ck_r_act_600) ck_r_act_750)
theorem ck_r_swap : ga_ckM (am_FL fl_r) (am_ML ml_r) (am_GS gs_r) (am_GS lc_r) am_G 4 prog_2_method_83_code cd_r_swap 17 = true := by decide +kernel
theorem ck_r_places : ga_ckM (am_FL fl_r) (am_ML ml_r) (am_GS gs_r) (am_GS lc_r) am_G 5 prog_2_method_84_code cd_r_places 177 = true := by decide +kernel
theorem ck_r_way : ga_ckM (am_FL fl_r) (am_ML ml_r) (am_GS gs_r) (am_GS lc_r) am_G 3 prog_2_method_85_code cd_r_way 121 = true := by decide +kernel
theorem ck_r_values : ga_ckM (am_FL fl_r) (am_ML ml_r) (am_GS gs_r) (am_GS lc_r) am_G 2 prog_2_method_86_code cd_r_values 46 = true := by decide +kernel
theorem ck_r_adjectives : ga_ckM (am_FL fl_r) (am_ML ml_r) (am_GS gs_r) (am_GS lc_r) am_G 6 prog_2_method_87_code cd_r_adjectives 228 = true := by decide +kernel
theorem ck_r_owner : ga_ckM (am_FL fl_r) (am_ML ml_r) (am_GS gs_r) (am_GS lc_r) am_G 2 prog_2_method_88_code cd_r_owner 126 = true := by decide +kernel
theorem ck_r_relates : ga_ckM (am_FL fl_r) (am_ML ml_r) (am_GS gs_r) (am_GS lc_r) am_G 11 prog_2_method_89_code cd_r_relates 286 = true := by decide +kernel
theorem ck_r_keepCommand : ga_ckM (am_FL fl_r) (am_ML ml_r) (am_GS gs_r) (am_GS lc_r) am_G 4 prog_2_method_90_code cd_r_keepCommand 188 = true := by decide +kernel
theorem ck_r_story : ga_ckM (am_FL fl_r) (am_ML ml_r) (am_GS gs_r) (am_GS lc_r) am_G 4 prog_2_method_91_code cd_r_story 190 = true := by decide +kernel
theorem ck_u_write : ga_ckM (am_FL fl_u) (am_ML ml_u) (am_GS gs_u) (am_GS lc_u) am_G 2 prog_7_method_2_code cd_u_write 29 = true := by decide +kernel
theorem ck_u_writeWords : ga_ckM (am_FL fl_u) (am_ML ml_u) (am_GS gs_u) (am_GS lc_u) am_G 3 prog_7_method_3_code cd_u_writeWords 54 = true := by decide +kernel
theorem ck_u_writeNumber : ga_ckM (am_FL fl_u) (am_ML ml_u) (am_GS gs_u) (am_GS lc_u) am_G 4 prog_7_method_4_code cd_u_writeNumber 65 = true := by decide +kernel
theorem ck_u_writeText : ga_ckM (am_FL fl_u) (am_ML ml_u) (am_GS gs_u) (am_GS lc_u) am_G 4 prog_7_method_5_code cd_u_writeText 29 = true := by decide +kernel
theorem ck_u_writeProperty : ga_ckM (am_FL fl_u) (am_ML ml_u) (am_GS gs_u) (am_GS lc_u) am_G 4 prog_7_method_6_code cd_u_writeProperty 123 = true := by decide +kernel
theorem ck_u_object : ga_ckM (am_FL fl_u) (am_ML ml_u) (am_GS gs_u) (am_GS lc_u) am_G 3 prog_7_method_7_code cd_u_object 22 = true := by decide +kernel
theorem ck_u_holds : ga_ckM (am_FL fl_u) (am_ML ml_u) (am_GS gs_u) (am_GS lc_u) am_G 4 prog_7_method_8_code cd_u_holds 92 = true := by decide +kernel
theorem ck_u_tests : ga_ckM (am_FL fl_u) (am_ML ml_u) (am_GS gs_u) (am_GS lc_u) am_G 6 prog_7_method_9_code cd_u_tests 44 = true := by decide +kernel
theorem ck_u_isText : ga_ckM (am_FL fl_u) (am_ML ml_u) (am_GS gs_u) (am_GS lc_u) am_G 7 prog_7_method_10_code cd_u_isText 128 = true := by decide +kernel
theorem ck_u_test : ga_ckM (am_FL fl_u) (am_ML ml_u) (am_GS gs_u) (am_GS lc_u) am_G 6 prog_7_method_11_code cd_u_test 299 = true := by decide +kernel
theorem ck_u_phrase_0 : ga_ckR (fun pc => ga_ckI (am_FL fl_u) (am_ML ml_u) (am_GS gs_u) (am_GS lc_u) am_G 6 prog_7_method_12_code pc (cd_u_phrase pc)) 0 150 = true := by decide +kernel
theorem ck_u_phrase_150 : ga_ckR (fun pc => ga_ckI (am_FL fl_u) (am_ML ml_u) (am_GS gs_u) (am_GS lc_u) am_G 6 prog_7_method_12_code pc (cd_u_phrase pc)) 150 300 = true := by decide +kernel
theorem ck_u_phrase_300 : ga_ckR (fun pc => ga_ckI (am_FL fl_u) (am_ML ml_u) (am_GS gs_u) (am_GS lc_u) am_G 6 prog_7_method_12_code pc (cd_u_phrase pc)) 300 407 = true := by decide +kernel
theorem ck_u_phrase : ga_ckM (am_FL fl_u) (am_ML ml_u) (am_GS gs_u) (am_GS lc_u) am_G 6 prog_7_method_12_code cd_u_phrase 407 = true := ga_ckR_all (ga_ckR_cat (ga_ckR_cat (ck_u_phrase_0) ck_u_phrase_150) ck_u_phrase_300)
theorem ck_u_move : ga_ckM (am_FL fl_u) (am_ML ml_u) (am_GS gs_u) (am_GS lc_u) am_G 3 prog_7_method_13_code cd_u_move 42 = true := by decide +kernel

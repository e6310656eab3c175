/-! the code tables against the bytes, by program (gen13.py) -/
theorem ck_m_packed : ga_ckM (am_FL fl_m) (am_ML ml_m) (am_GS gs_m) (am_GS lc_m) am_G 4 prog_11_method_17_code cd_m_packed 34 = true := by decide +kernel
theorem ck_m_tellWord : ga_ckM (am_FL fl_m) (am_ML ml_m) (am_GS gs_m) (am_GS lc_m) am_G 4 prog_11_method_18_code cd_m_tellWord 14 = true := by decide +kernel
theorem ck_m_lexOf : ga_ckM (am_FL fl_m) (am_ML ml_m) (am_GS gs_m) (am_GS lc_m) am_G 4 prog_11_method_19_code cd_m_lexOf 40 = true := by decide +kernel
theorem ck_m_addKind : ga_ckM (am_FL fl_m) (am_ML ml_m) (am_GS gs_m) (am_GS lc_m) am_G 3 prog_11_method_20_code cd_m_addKind 100 = true := by decide +kernel
theorem ck_m_addObject : ga_ckM (am_FL fl_m) (am_ML ml_m) (am_GS gs_m) (am_GS lc_m) am_G 3 prog_11_method_21_code cd_m_addObject 105 = true := by decide +kernel
theorem ck_m_addAdjective : ga_ckM (am_FL fl_m) (am_ML ml_m) (am_GS gs_m) (am_GS lc_m) am_G 3 prog_11_method_22_code cd_m_addAdjective 47 = true := by decide +kernel
theorem ck_m_addAction : ga_ckM (am_FL fl_m) (am_ML ml_m) (am_GS gs_m) (am_GS lc_m) am_G 2 prog_11_method_23_code cd_m_addAction 27 = true := by decide +kernel
theorem ck_m_firstCommand : ga_ckM (am_FL fl_m) (am_ML ml_m) (am_GS gs_m) (am_GS lc_m) am_G 6 prog_11_method_24_code cd_m_firstCommand 91 = true := by decide +kernel
theorem ck_m_direction : ga_ckM (am_FL fl_m) (am_ML ml_m) (am_GS gs_m) (am_GS lc_m) am_G 1 prog_11_method_25_code cd_m_direction 58 = true := by decide +kernel
theorem ck_m_begin_0 : ga_ckR (fun pc => ga_ckI (am_FL fl_m) (am_ML ml_m) (am_GS gs_m) (am_GS lc_m) am_G 2 prog_11_method_26_code pc (cd_m_begin pc)) 0 150 = true := by decide +kernel
theorem ck_m_begin_150 : ga_ckR (fun pc => ga_ckI (am_FL fl_m) (am_ML ml_m) (am_GS gs_m) (am_GS lc_m) am_G 2 prog_11_method_26_code pc (cd_m_begin pc)) 150 300 = true := by decide +kernel
theorem ck_m_begin_300 : ga_ckR (fun pc => ga_ckI (am_FL fl_m) (am_ML ml_m) (am_GS gs_m) (am_GS lc_m) am_G 2 prog_11_method_26_code pc (cd_m_begin pc)) 300 450 = true := by decide +kernel
theorem ck_m_begin_450 : ga_ckR (fun pc => ga_ckI (am_FL fl_m) (am_ML ml_m) (am_GS gs_m) (am_GS lc_m) am_G 2 prog_11_method_26_code pc (cd_m_begin pc)) 450 517 = true := by decide +kernel
theorem ck_m_begin : ga_ckM (am_FL fl_m) (am_ML ml_m) (am_GS gs_m) (am_GS lc_m) am_G 2 prog_11_method_26_code cd_m_begin 517 = true := ga_ckR_all (ga_ckR_cat (ga_ckR_cat (ga_ckR_cat (ck_m_begin_0) ck_m_begin_150) ck_m_begin_300) ck_m_begin_450)
theorem ck_m_isBelow : ga_ckM (am_FL fl_m) (am_ML ml_m) (am_GS gs_m) (am_GS lc_m) am_G 4 prog_11_method_27_code cd_m_isBelow 36 = true := by decide +kernel
theorem ck_m_has : ga_ckM (am_FL fl_m) (am_ML ml_m) (am_GS gs_m) (am_GS lc_m) am_G 4 prog_11_method_28_code cd_m_has 34 = true := by decide +kernel
theorem ck_m_propertyOf : ga_ckM (am_FL fl_m) (am_ML ml_m) (am_GS gs_m) (am_GS lc_m) am_G 5 prog_11_method_29_code cd_m_propertyOf 76 = true := by decide +kernel
theorem ck_m_odd : ga_ckM (am_FL fl_m) (am_ML ml_m) (am_GS gs_m) (am_GS lc_m) am_G 1 prog_11_method_30_code cd_m_odd 21 = true := by decide +kernel
theorem ck_m_look : ga_ckM (am_FL fl_m) (am_ML ml_m) (am_GS gs_m) (am_GS lc_m) am_G 1 prog_11_method_31_code cd_m_look 21 = true := by decide +kernel
theorem ck_m_isNext : ga_ckM (am_FL fl_m) (am_ML ml_m) (am_GS gs_m) (am_GS lc_m) am_G 2 prog_11_method_32_code cd_m_isNext 26 = true := by decide +kernel
theorem ck_m_take : ga_ckM (am_FL fl_m) (am_ML ml_m) (am_GS gs_m) (am_GS lc_m) am_G 2 prog_11_method_33_code cd_m_take 26 = true := by decide +kernel
theorem ck_m_isArt : ga_ckM (am_FL fl_m) (am_ML ml_m) (am_GS gs_m) (am_GS lc_m) am_G 1 prog_11_method_34_code cd_m_isArt 18 = true := by decide +kernel
theorem ck_m_run : ga_ckM (am_FL fl_m) (am_ML ml_m) (am_GS gs_m) (am_GS lc_m) am_G 1 prog_11_method_35_code cd_m_run 93 = true := by decide +kernel
theorem ck_m_name0 : ga_ckM (am_FL fl_m) (am_ML ml_m) (am_GS gs_m) (am_GS lc_m) am_G 1 prog_11_method_36_code cd_m_name0 25 = true := by decide +kernel
theorem ck_m_art : ga_ckM (am_FL fl_m) (am_ML ml_m) (am_GS gs_m) (am_GS lc_m) am_G 1 prog_11_method_37_code cd_m_art 28 = true := by decide +kernel
theorem ck_m_isMore : ga_ckM (am_FL fl_m) (am_ML ml_m) (am_GS gs_m) (am_GS lc_m) am_G 1 prog_11_method_38_code cd_m_isMore 72 = true := by decide +kernel
theorem ck_m_list : ga_ckM (am_FL fl_m) (am_ML ml_m) (am_GS gs_m) (am_GS lc_m) am_G 3 prog_11_method_39_code cd_m_list 60 = true := by decide +kernel
theorem ck_m_placing : ga_ckM (am_FL fl_m) (am_ML ml_m) (am_GS gs_m) (am_GS lc_m) am_G 3 prog_11_method_40_code cd_m_placing 103 = true := by decide +kernel
theorem ck_m_what : ga_ckM (am_FL fl_m) (am_ML ml_m) (am_GS gs_m) (am_GS lc_m) am_G 2 prog_11_method_41_code cd_m_what 42 = true := by decide +kernel
theorem ck_m_thing : ga_ckM (am_FL fl_m) (am_ML ml_m) (am_GS gs_m) (am_GS lc_m) am_G 1 prog_11_method_42_code cd_m_thing 149 = true := by decide +kernel
theorem ck_m_endsTest : ga_ckM (am_FL fl_m) (am_ML ml_m) (am_GS gs_m) (am_GS lc_m) am_G 3 prog_11_method_43_code cd_m_endsTest 39 = true := by decide +kernel
theorem ck_m_beginsOf : ga_ckM (am_FL fl_m) (am_ML ml_m) (am_GS gs_m) (am_GS lc_m) am_G 3 prog_11_method_44_code cd_m_beginsOf 57 = true := by decide +kernel
theorem ck_m_property0 : ga_ckM (am_FL fl_m) (am_ML ml_m) (am_GS gs_m) (am_GS lc_m) am_G 1 prog_11_method_45_code cd_m_property0 26 = true := by decide +kernel
theorem ck_m_thingOfTest : ga_ckM (am_FL fl_m) (am_ML ml_m) (am_GS gs_m) (am_GS lc_m) am_G 1 prog_11_method_46_code cd_m_thingOfTest 40 = true := by decide +kernel

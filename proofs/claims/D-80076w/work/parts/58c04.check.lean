/-! the code tables against the bytes, by program (gen13.py) -/
theorem ck_r_thingOf : ga_ckM (am_FL fl_r) (am_ML ml_r) (am_GS gs_r) (am_GS lc_r) am_G 3 prog_2_method_43_code cd_r_thingOf 91 = true := by decide +kernel
theorem ck_r_kindOf : ga_ckM (am_FL fl_r) (am_ML ml_r) (am_GS gs_r) (am_GS lc_r) am_G 2 prog_2_method_44_code cd_r_kindOf 36 = true := by decide +kernel
theorem ck_r_isThing : ga_ckM (am_FL fl_r) (am_ML ml_r) (am_GS gs_r) (am_GS lc_r) am_G 5 prog_2_method_45_code cd_r_isThing 159 = true := by decide +kernel
theorem ck_r_saying : ga_ckM (am_FL fl_r) (am_ML ml_r) (am_GS gs_r) (am_GS lc_r) am_G 9 prog_2_method_46_code cd_r_saying 233 = true := by decide +kernel
theorem ck_r_property : ga_ckM (am_FL fl_r) (am_ML ml_r) (am_GS gs_r) (am_GS lc_r) am_G 6 prog_2_method_47_code cd_r_property 96 = true := by decide +kernel
theorem ck_r_value : ga_ckM (am_FL fl_r) (am_ML ml_r) (am_GS gs_r) (am_GS lc_r) am_G 5 prog_2_method_48_code cd_r_value 142 = true := by decide +kernel
theorem ck_r_test_0 : ga_ckR (fun pc => ga_ckI (am_FL fl_r) (am_ML ml_r) (am_GS gs_r) (am_GS lc_r) am_G 6 prog_2_method_49_code pc (cd_r_test pc)) 0 150 = true := by decide +kernel
theorem ck_r_test_150 : ga_ckR (fun pc => ga_ckI (am_FL fl_r) (am_ML ml_r) (am_GS gs_r) (am_GS lc_r) am_G 6 prog_2_method_49_code pc (cd_r_test pc)) 150 300 = true := by decide +kernel
theorem ck_r_test_300 : ga_ckR (fun pc => ga_ckI (am_FL fl_r) (am_ML ml_r) (am_GS gs_r) (am_GS lc_r) am_G 6 prog_2_method_49_code pc (cd_r_test pc)) 300 341 = true := by decide +kernel
theorem ck_r_test : ga_ckM (am_FL fl_r) (am_ML ml_r) (am_GS gs_r) (am_GS lc_r) am_G 6 prog_2_method_49_code cd_r_test 341 = true := ga_ckR_all (ga_ckR_cat (ga_ckR_cat (ck_r_test_0) ck_r_test_150) ck_r_test_300)
theorem ck_r_phrase_0 : ga_ckR (fun pc => ga_ckI (am_FL fl_r) (am_ML ml_r) (am_GS gs_r) (am_GS lc_r) am_G 6 prog_2_method_50_code pc (cd_r_phrase pc)) 0 150 = true := by decide +kernel
theorem ck_r_phrase_150 : ga_ckR (fun pc => ga_ckI (am_FL fl_r) (am_ML ml_r) (am_GS gs_r) (am_GS lc_r) am_G 6 prog_2_method_50_code pc (cd_r_phrase pc)) 150 300 = true := by decide +kernel
theorem ck_r_phrase_300 : ga_ckR (fun pc => ga_ckI (am_FL fl_r) (am_ML ml_r) (am_GS gs_r) (am_GS lc_r) am_G 6 prog_2_method_50_code pc (cd_r_phrase pc)) 300 370 = true := by decide +kernel
theorem ck_r_phrase : ga_ckM (am_FL fl_r) (am_ML ml_r) (am_GS gs_r) (am_GS lc_r) am_G 6 prog_2_method_50_code cd_r_phrase 370 = true := ga_ckR_all (ga_ckR_cat (ga_ckR_cat (ck_r_phrase_0) ck_r_phrase_150) ck_r_phrase_300)
theorem ck_r_trying : ga_ckM (am_FL fl_r) (am_ML ml_r) (am_GS gs_r) (am_GS lc_r) am_G 3 prog_2_method_51_code cd_r_trying 125 = true := by decide +kernel
theorem ck_r_acting : ga_ckM (am_FL fl_r) (am_ML ml_r) (am_GS gs_r) (am_GS lc_r) am_G 8 prog_2_method_52_code cd_r_acting 167 = true := by decide +kernel
theorem ck_r_isSaid : ga_ckM (am_FL fl_r) (am_ML ml_r) (am_GS gs_r) (am_GS lc_r) am_G 6 prog_2_method_53_code cd_r_isSaid 127 = true := by decide +kernel
theorem ck_r_innerThing : ga_ckM (am_FL fl_r) (am_ML ml_r) (am_GS gs_r) (am_GS lc_r) am_G 5 prog_2_method_54_code cd_r_innerThing 166 = true := by decide +kernel
theorem ck_r_isBracket : ga_ckM (am_FL fl_r) (am_ML ml_r) (am_GS gs_r) (am_GS lc_r) am_G 7 prog_2_method_55_code cd_r_isBracket 213 = true := by decide +kernel
theorem ck_r_place : ga_ckM (am_FL fl_r) (am_ML ml_r) (am_GS gs_r) (am_GS lc_r) am_G 3 prog_2_method_57_code cd_r_place 129 = true := by decide +kernel
theorem ck_r_check_0 : ga_ckR (fun pc => ga_ckI (am_FL fl_r) (am_ML ml_r) (am_GS gs_r) (am_GS lc_r) am_G 2 prog_2_method_58_code pc (cd_r_check pc)) 0 150 = true := by decide +kernel
theorem ck_r_check_150 : ga_ckR (fun pc => ga_ckI (am_FL fl_r) (am_ML ml_r) (am_GS gs_r) (am_GS lc_r) am_G 2 prog_2_method_58_code pc (cd_r_check pc)) 150 300 = true := by decide +kernel
theorem ck_r_check_300 : ga_ckR (fun pc => ga_ckI (am_FL fl_r) (am_ML ml_r) (am_GS gs_r) (am_GS lc_r) am_G 2 prog_2_method_58_code pc (cd_r_check pc)) 300 450 = true := by decide +kernel
theorem ck_r_check_450 : ga_ckR (fun pc => ga_ckI (am_FL fl_r) (am_ML ml_r) (am_GS gs_r) (am_GS lc_r) am_G 2 prog_2_method_58_code pc (cd_r_check pc)) 450 600 = true := by decide +kernel
theorem ck_r_check_600 : ga_ckR (fun pc => ga_ckI (am_FL fl_r) (am_ML ml_r) (am_GS gs_r) (am_GS lc_r) am_G 2 prog_2_method_58_code pc (cd_r_check pc)) 600 750 = true := by decide +kernel
theorem ck_r_check_750 : ga_ckR (fun pc => ga_ckI (am_FL fl_r) (am_ML ml_r) (am_GS gs_r) (am_GS lc_r) am_G 2 prog_2_method_58_code pc (cd_r_check pc)) 750 898 = true := by decide +kernel
theorem ck_r_check : ga_ckM (am_FL fl_r) (am_ML ml_r) (am_GS gs_r) (am_GS lc_r) am_G 2 prog_2_method_58_code cd_r_check 898 = true := ga_ckR_all (ga_ckR_cat (ga_ckR_cat (ga_ckR_cat (ga_ckR_cat (ga_ckR_cat (ck_r_check_0) ck_r_check_150) ck_r_check_300) ck_r_check_450) ck_r_check_600) ck_r_check_750)
theorem ck_r_checkTests : ga_ckM (am_FL fl_r) (am_ML ml_r) (am_GS gs_r) (am_GS lc_r) am_G 2 prog_2_method_59_code cd_r_checkTests 75 = true := by decide +kernel
theorem ck_r_checkRule : ga_ckM (am_FL fl_r) (am_ML ml_r) (am_GS gs_r) (am_GS lc_r) am_G 3 prog_2_method_60_code cd_r_checkRule 182 = true := by decide +kernel
theorem ck_r_checkActing : ga_ckM (am_FL fl_r) (am_ML ml_r) (am_GS gs_r) (am_GS lc_r) am_G 3 prog_2_method_61_code cd_r_checkActing 193 = true := by decide +kernel
theorem ck_r_whom : ga_ckM (am_FL fl_r) (am_ML ml_r) (am_GS gs_r) (am_GS lc_r) am_G 7 prog_2_method_62_code cd_r_whom 222 = true := by decide +kernel
theorem ck_r_checkProperty : ga_ckM (am_FL fl_r) (am_ML ml_r) (am_GS gs_r) (am_GS lc_r) am_G 4 prog_2_method_63_code cd_r_checkProperty 198 = true := by decide +kernel
theorem ck_r_checkWay : ga_ckM (am_FL fl_r) (am_ML ml_r) (am_GS gs_r) (am_GS lc_r) am_G 2 prog_2_method_64_code cd_r_checkWay 137 = true := by decide +kernel
theorem ck_r_checkPlain_0 : ga_ckR (fun pc => ga_ckI (am_FL fl_r) (am_ML ml_r) (am_GS gs_r) (am_GS lc_r) am_G 7 prog_2_method_65_code pc (cd_r_checkPlain pc)) 0 150 = true := by decide +kernel
theorem ck_r_checkPlain_150 : ga_ckR (fun pc => ga_ckI (am_FL fl_r) (am_ML ml_r) (am_GS gs_r) (am_GS lc_r) am_G 7 prog_2_method_65_code pc (cd_r_checkPlain pc)) 150 300 = true := by decide +kernel
theorem ck_r_checkPlain_300 : ga_ckR (fun pc => ga_ckI (am_FL fl_r) (am_ML ml_r) (am_GS gs_r) (am_GS lc_r) am_G 7 prog_2_method_65_code pc (cd_r_checkPlain pc)) 300 328 = true := by decide +kernel
theorem ck_r_checkPlain : ga_ckM (am_FL fl_r) (am_ML ml_r) (am_GS gs_r) (am_GS lc_r) am_G 7 prog_2_method_65_code cd_r_checkPlain 328 = true := ga_ckR_all (ga_ckR_cat (ga_ckR_cat (ck_r_checkPlain_0) ck_r_checkPlain_150) ck_r_checkPlain_300)
theorem ck_r_checkValues : ga_ckM (am_FL fl_r) (am_ML ml_r) (am_GS gs_r) (am_GS lc_r) am_G 2 prog_2_method_66_code cd_r_checkValues 129 = true := by decide +kernel
theorem ck_r_checkHas : ga_ckM (am_FL fl_r) (am_ML ml_r) (am_GS gs_r) (am_GS lc_r) am_G 2 prog_2_method_67_code cd_r_checkHas 141 = true := by decide +kernel
theorem ck_r_listed : ga_ckM (am_FL fl_r) (am_ML ml_r) (am_GS gs_r) (am_GS lc_r) am_G 10 prog_2_method_68_code cd_r_listed 214 = true := by decide +kernel
theorem ck_r_several : ga_ckM (am_FL fl_r) (am_ML ml_r) (am_GS gs_r) (am_GS lc_r) am_G 5 prog_2_method_69_code cd_r_several 51 = true := by decide +kernel
theorem ck_r_checkVerb : ga_ckM (am_FL fl_r) (am_ML ml_r) (am_GS gs_r) (am_GS lc_r) am_G 8 prog_2_method_70_code cd_r_checkVerb 195 = true := by decide +kernel
theorem ck_r_checkCommand : ga_ckM (am_FL fl_r) (am_ML ml_r) (am_GS gs_r) (am_GS lc_r) am_G 4 prog_2_method_71_code cd_r_checkCommand 212 = true := by decide +kernel
theorem ck_r_isCommand : ga_ckM (am_FL fl_r) (am_ML ml_r) (am_GS gs_r) (am_GS lc_r) am_G 6 prog_2_method_72_code cd_r_isCommand 272 = true := by decide +kernel
theorem ck_r_isSlot : ga_ckM (am_FL fl_r) (am_ML ml_r) (am_GS gs_r) (am_GS lc_r) am_G 6 prog_2_method_73_code cd_r_isSlot 189 = true := by decide +kernel

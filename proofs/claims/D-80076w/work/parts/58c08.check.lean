/-! the code tables against the bytes, by program (gen13.py) -/
theorem ck_m_test_0 : ga_ckR (fun pc => ga_ckI (am_FL fl_m) (am_ML ml_m) (am_GS gs_m) (am_GS lc_m) am_G 5 prog_11_method_47_code pc (cd_m_test pc)) 0 150 = true := by decide +kernel
theorem ck_m_test_150 : ga_ckR (fun pc => ga_ckI (am_FL fl_m) (am_ML ml_m) (am_GS gs_m) (am_GS lc_m) am_G 5 prog_11_method_47_code pc (cd_m_test pc)) 150 300 = true := by decide +kernel
theorem ck_m_test_300 : ga_ckR (fun pc => ga_ckI (am_FL fl_m) (am_ML ml_m) (am_GS gs_m) (am_GS lc_m) am_G 5 prog_11_method_47_code pc (cd_m_test pc)) 300 403 = true := by decide +kernel
theorem ck_m_test : ga_ckM (am_FL fl_m) (am_ML ml_m) (am_GS gs_m) (am_GS lc_m) am_G 5 prog_11_method_47_code cd_m_test 403 = true := ga_ckR_all (ga_ckR_cat (ga_ckR_cat (ck_m_test_0) ck_m_test_150) ck_m_test_300)
theorem ck_m_testedWhat : ga_ckM (am_FL fl_m) (am_ML ml_m) (am_GS gs_m) (am_GS lc_m) am_G 2 prog_11_method_48_code cd_m_testedWhat 180 = true := by decide +kernel
theorem ck_m_tests : ga_ckM (am_FL fl_m) (am_ML ml_m) (am_GS gs_m) (am_GS lc_m) am_G 1 prog_11_method_49_code cd_m_tests 41 = true := by decide +kernel
theorem ck_m_phrase_0 : ga_ckR (fun pc => ga_ckI (am_FL fl_m) (am_ML ml_m) (am_GS gs_m) (am_GS lc_m) am_G 3 prog_11_method_50_code pc (cd_m_phrase pc)) 0 150 = true := by decide +kernel
theorem ck_m_phrase_150 : ga_ckR (fun pc => ga_ckI (am_FL fl_m) (am_ML ml_m) (am_GS gs_m) (am_GS lc_m) am_G 3 prog_11_method_50_code pc (cd_m_phrase pc)) 150 300 = true := by decide +kernel
theorem ck_m_phrase_300 : ga_ckR (fun pc => ga_ckI (am_FL fl_m) (am_ML ml_m) (am_GS gs_m) (am_GS lc_m) am_G 3 prog_11_method_50_code pc (cd_m_phrase pc)) 300 450 = true := by decide +kernel
theorem ck_m_phrase_450 : ga_ckR (fun pc => ga_ckI (am_FL fl_m) (am_ML ml_m) (am_GS gs_m) (am_GS lc_m) am_G 3 prog_11_method_50_code pc (cd_m_phrase pc)) 450 459 = true := by decide +kernel
theorem ck_m_phrase : ga_ckM (am_FL fl_m) (am_ML ml_m) (am_GS gs_m) (am_GS lc_m) am_G 3 prog_11_method_50_code cd_m_phrase 459 = true := ga_ckR_all (ga_ckR_cat (ga_ckR_cat (ga_ckR_cat (ck_m_phrase_0) ck_m_phrase_150) ck_m_phrase_300) ck_m_phrase_450)
theorem ck_m_phrases : ga_ckM (am_FL fl_m) (am_ML ml_m) (am_GS gs_m) (am_GS lc_m) am_G 1 prog_11_method_51_code cd_m_phrases 31 = true := by decide +kernel
theorem ck_m_rule1 : ga_ckM (am_FL fl_m) (am_ML ml_m) (am_GS gs_m) (am_GS lc_m) am_G 2 prog_11_method_52_code cd_m_rule1 118 = true := by decide +kernel
theorem ck_m_partOne : ga_ckM (am_FL fl_m) (am_ML ml_m) (am_GS gs_m) (am_GS lc_m) am_G 1 prog_11_method_53_code cd_m_partOne 38 = true := by decide +kernel
theorem ck_m_partTwo : ga_ckM (am_FL fl_m) (am_ML ml_m) (am_GS gs_m) (am_GS lc_m) am_G 1 prog_11_method_54_code cd_m_partTwo 48 = true := by decide +kernel
theorem ck_m_be : ga_ckM (am_FL fl_m) (am_ML ml_m) (am_GS gs_m) (am_GS lc_m) am_G 1 prog_11_method_55_code cd_m_be 46 = true := by decide +kernel
theorem ck_m_rest_0 : ga_ckR (fun pc => ga_ckI (am_FL fl_m) (am_ML ml_m) (am_GS gs_m) (am_GS lc_m) am_G 2 prog_11_method_56_code pc (cd_m_rest pc)) 0 150 = true := by decide +kernel
theorem ck_m_rest_150 : ga_ckR (fun pc => ga_ckI (am_FL fl_m) (am_ML ml_m) (am_GS gs_m) (am_GS lc_m) am_G 2 prog_11_method_56_code pc (cd_m_rest pc)) 150 300 = true := by decide +kernel
theorem ck_m_rest_300 : ga_ckR (fun pc => ga_ckI (am_FL fl_m) (am_ML ml_m) (am_GS gs_m) (am_GS lc_m) am_G 2 prog_11_method_56_code pc (cd_m_rest pc)) 300 450 = true := by decide +kernel
theorem ck_m_rest_450 : ga_ckR (fun pc => ga_ckI (am_FL fl_m) (am_ML ml_m) (am_GS gs_m) (am_GS lc_m) am_G 2 prog_11_method_56_code pc (cd_m_rest pc)) 450 458 = true := by decide +kernel
theorem ck_m_rest : ga_ckM (am_FL fl_m) (am_ML ml_m) (am_GS gs_m) (am_GS lc_m) am_G 2 prog_11_method_56_code cd_m_rest 458 = true := ga_ckR_all (ga_ckR_cat (ga_ckR_cat (ga_ckR_cat (ck_m_rest_0) ck_m_rest_150) ck_m_rest_300) ck_m_rest_450)
theorem ck_m_oneOrVarious : ga_ckM (am_FL fl_m) (am_ML ml_m) (am_GS gs_m) (am_GS lc_m) am_G 2 prog_11_method_57_code cd_m_oneOrVarious 36 = true := by decide +kernel
theorem ck_m_others : ga_ckM (am_FL fl_m) (am_ML ml_m) (am_GS gs_m) (am_GS lc_m) am_G 4 prog_11_method_58_code cd_m_others 223 = true := by decide +kernel
theorem ck_m_common : ga_ckM (am_FL fl_m) (am_ML ml_m) (am_GS gs_m) (am_GS lc_m) am_G 5 prog_11_method_59_code cd_m_common 190 = true := by decide +kernel
theorem ck_m_sentence_0 : ga_ckR (fun pc => ga_ckI (am_FL fl_m) (am_ML ml_m) (am_GS gs_m) (am_GS lc_m) am_G 2 prog_11_method_60_code pc (cd_m_sentence pc)) 0 150 = true := by decide +kernel
theorem ck_m_sentence_150 : ga_ckR (fun pc => ga_ckI (am_FL fl_m) (am_ML ml_m) (am_GS gs_m) (am_GS lc_m) am_G 2 prog_11_method_60_code pc (cd_m_sentence pc)) 150 300 = true := by decide +kernel
theorem ck_m_sentence_300 : ga_ckR (fun pc => ga_ckI (am_FL fl_m) (am_ML ml_m) (am_GS gs_m) (am_GS lc_m) am_G 2 prog_11_method_60_code pc (cd_m_sentence pc)) 300 357 = true := by decide +kernel
theorem ck_m_sentence : ga_ckM (am_FL fl_m) (am_ML ml_m) (am_GS gs_m) (am_GS lc_m) am_G 2 prog_11_method_60_code cd_m_sentence 357 = true := ga_ckR_all (ga_ckR_cat (ga_ckR_cat (ck_m_sentence_0) ck_m_sentence_150) ck_m_sentence_300)
theorem ck_m_rank : ga_ckM (am_FL fl_m) (am_ML ml_m) (am_GS gs_m) (am_GS lc_m) am_G 1 prog_11_method_61_code cd_m_rank 40 = true := by decide +kernel
theorem ck_m_note : ga_ckM (am_FL fl_m) (am_ML ml_m) (am_GS gs_m) (am_GS lc_m) am_G 4 prog_11_method_62_code cd_m_note 60 = true := by decide +kernel
theorem ck_m_need : ga_ckM (am_FL fl_m) (am_ML ml_m) (am_GS gs_m) (am_GS lc_m) am_G 4 prog_11_method_63_code cd_m_need 11 = true := by decide +kernel
theorem ck_m_isAlike : ga_ckM (am_FL fl_m) (am_ML ml_m) (am_GS gs_m) (am_GS lc_m) am_G 5 prog_11_method_64_code cd_m_isAlike 85 = true := by decide +kernel
theorem ck_m_isNew : ga_ckM (am_FL fl_m) (am_ML ml_m) (am_GS gs_m) (am_GS lc_m) am_G 4 prog_11_method_65_code cd_m_isNew 78 = true := by decide +kernel
theorem ck_m_mustBeNew : ga_ckM (am_FL fl_m) (am_ML ml_m) (am_GS gs_m) (am_GS lc_m) am_G 4 prog_11_method_66_code cd_m_mustBeNew 65 = true := by decide +kernel
theorem ck_m_meansRun : ga_ckM (am_FL fl_m) (am_ML ml_m) (am_GS gs_m) (am_GS lc_m) am_G 3 prog_11_method_67_code cd_m_meansRun 18 = true := by decide +kernel
theorem ck_m_meansNothing : ga_ckM (am_FL fl_m) (am_ML ml_m) (am_GS gs_m) (am_GS lc_m) am_G 2 prog_11_method_68_code cd_m_meansNothing 26 = true := by decide +kernel
theorem ck_m_kindOfRun : ga_ckM (am_FL fl_m) (am_ML ml_m) (am_GS gs_m) (am_GS lc_m) am_G 3 prog_11_method_69_code cd_m_kindOfRun 30 = true := by decide +kernel
theorem ck_m_kindOrPlural : ga_ckM (am_FL fl_m) (am_ML ml_m) (am_GS gs_m) (am_GS lc_m) am_G 3 prog_11_method_70_code cd_m_kindOrPlural 23 = true := by decide +kernel
theorem ck_m_typeOrPlural : ga_ckM (am_FL fl_m) (am_ML ml_m) (am_GS gs_m) (am_GS lc_m) am_G 3 prog_11_method_71_code cd_m_typeOrPlural 23 = true := by decide +kernel
theorem ck_m_objectsOrNew : ga_ckM (am_FL fl_m) (am_ML ml_m) (am_GS gs_m) (am_GS lc_m) am_G 5 prog_11_method_72_code cd_m_objectsOrNew 92 = true := by decide +kernel
theorem ck_m_adjective : ga_ckM (am_FL fl_m) (am_ML ml_m) (am_GS gs_m) (am_GS lc_m) am_G 9 prog_11_method_73_code cd_m_adjective 142 = true := by decide +kernel
theorem ck_m_parted : ga_ckM (am_FL fl_m) (am_ML ml_m) (am_GS gs_m) (am_GS lc_m) am_G 10 prog_11_method_74_code cd_m_parted 133 = true := by decide +kernel
theorem ck_m_describe : ga_ckM (am_FL fl_m) (am_ML ml_m) (am_GS gs_m) (am_GS lc_m) am_G 8 prog_11_method_75_code cd_m_describe 91 = true := by decide +kernel
theorem ck_m_oneReading : ga_ckM (am_FL fl_m) (am_ML ml_m) (am_GS gs_m) (am_GS lc_m) am_G 2 prog_11_method_76_code cd_m_oneReading 39 = true := by decide +kernel

/-! the code tables against the bytes, by program (gen13.py) -/
theorem ck_r_what : ga_ckM (am_FL fl_r) (am_ML ml_r) (am_GS gs_r) (am_GS lc_r) am_G 1 prog_2_method_13_code cd_r_what 33 = true := by decide +kernel
theorem ck_r_oneOrVarious : ga_ckM (am_FL fl_r) (am_ML ml_r) (am_GS gs_r) (am_GS lc_r) am_G 3 prog_2_method_14_code cd_r_oneOrVarious 38 = true := by decide +kernel
theorem ck_r_isPlace : ga_ckM (am_FL fl_r) (am_ML ml_r) (am_GS gs_r) (am_GS lc_r) am_G 1 prog_2_method_15_code cd_r_isPlace 76 = true := by decide +kernel
theorem ck_r_placeWords : ga_ckM (am_FL fl_r) (am_ML ml_r) (am_GS gs_r) (am_GS lc_r) am_G 2 prog_2_method_16_code cd_r_placeWords 113 = true := by decide +kernel
theorem ck_r_placed : ga_ckM (am_FL fl_r) (am_ML ml_r) (am_GS gs_r) (am_GS lc_r) am_G 2 prog_2_method_17_code cd_r_placed 39 = true := by decide +kernel
theorem ck_r_shape : ga_ckM (am_FL fl_r) (am_ML ml_r) (am_GS gs_r) (am_GS lc_r) am_G 1 prog_2_method_18_code cd_r_shape 286 = true := by decide +kernel
theorem ck_r_ruleShape : ga_ckM (am_FL fl_r) (am_ML ml_r) (am_GS gs_r) (am_GS lc_r) am_G 5 prog_2_method_19_code cd_r_ruleShape 299 = true := by decide +kernel
theorem ck_r_testsAhead : ga_ckM (am_FL fl_r) (am_ML ml_r) (am_GS gs_r) (am_GS lc_r) am_G 5 prog_2_method_20_code cd_r_testsAhead 160 = true := by decide +kernel
theorem ck_r_otherShape_0 : ga_ckR (fun pc => ga_ckI (am_FL fl_r) (am_ML ml_r) (am_GS gs_r) (am_GS lc_r) am_G 3 prog_2_method_21_code pc (cd_r_otherShape pc)) 0 150 = true := by decide +kernel
theorem ck_r_otherShape_150 : ga_ckR (fun pc => ga_ckI (am_FL fl_r) (am_ML ml_r) (am_GS gs_r) (am_GS lc_r) am_G 3 prog_2_method_21_code pc (cd_r_otherShape pc)) 150 300 = true := by decide +kernel
theorem ck_r_otherShape_300 : ga_ckR (fun pc => ga_ckI (am_FL fl_r) (am_ML ml_r) (am_GS gs_r) (am_GS lc_r) am_G 3 prog_2_method_21_code pc (cd_r_otherShape pc)) 300 450 = true := by decide +kernel
theorem ck_r_otherShape_450 : ga_ckR (fun pc => ga_ckI (am_FL fl_r) (am_ML ml_r) (am_GS gs_r) (am_GS lc_r) am_G 3 prog_2_method_21_code pc (cd_r_otherShape pc)) 450 600 = true := by decide +kernel
theorem ck_r_otherShape_600 : ga_ckR (fun pc => ga_ckI (am_FL fl_r) (am_ML ml_r) (am_GS gs_r) (am_GS lc_r) am_G 3 prog_2_method_21_code pc (cd_r_otherShape pc)) 600 620 = true := by decide +kernel
theorem ck_r_otherShape : ga_ckM (am_FL fl_r) (am_ML ml_r) (am_GS gs_r) (am_GS lc_r) am_G 3 prog_2_method_21_code cd_r_otherShape 620 = true := ga_ckR_all (ga_ckR_cat (ga_ckR_cat (ga_ckR_cat (ga_ckR_cat (ck_r_otherShape_0) ck_r_otherShape_150) ck_r_otherShape_300) ck_r_otherShape_450) ck_r_otherShape_600)
theorem ck_r_behindRun : ga_ckM (am_FL fl_r) (am_ML ml_r) (am_GS gs_r) (am_GS lc_r) am_G 3 prog_2_method_22_code cd_r_behindRun 18 = true := by decide +kernel
theorem ck_r_nameOfList : ga_ckM (am_FL fl_r) (am_ML ml_r) (am_GS gs_r) (am_GS lc_r) am_G 2 prog_2_method_23_code cd_r_nameOfList 67 = true := by decide +kernel
theorem ck_r_beShape_0 : ga_ckR (fun pc => ga_ckI (am_FL fl_r) (am_ML ml_r) (am_GS gs_r) (am_GS lc_r) am_G 3 prog_2_method_24_code pc (cd_r_beShape pc)) 0 150 = true := by decide +kernel
theorem ck_r_beShape_150 : ga_ckR (fun pc => ga_ckI (am_FL fl_r) (am_ML ml_r) (am_GS gs_r) (am_GS lc_r) am_G 3 prog_2_method_24_code pc (cd_r_beShape pc)) 150 300 = true := by decide +kernel
theorem ck_r_beShape_300 : ga_ckR (fun pc => ga_ckI (am_FL fl_r) (am_ML ml_r) (am_GS gs_r) (am_GS lc_r) am_G 3 prog_2_method_24_code pc (cd_r_beShape pc)) 300 376 = true := by decide +kernel
theorem ck_r_beShape : ga_ckM (am_FL fl_r) (am_ML ml_r) (am_GS gs_r) (am_GS lc_r) am_G 3 prog_2_method_24_code cd_r_beShape 376 = true := ga_ckR_all (ga_ckR_cat (ga_ckR_cat (ck_r_beShape_0) ck_r_beShape_150) ck_r_beShape_300)
theorem ck_r_thing : ga_ckM (am_FL fl_r) (am_ML ml_r) (am_GS gs_r) (am_GS lc_r) am_G 2 prog_2_method_25_code cd_r_thing 124 = true := by decide +kernel
theorem ck_r_end : ga_ckM (am_FL fl_r) (am_ML ml_r) (am_GS gs_r) (am_GS lc_r) am_G 2 prog_2_method_26_code cd_r_end 22 = true := by decide +kernel
theorem ck_r_testShape_0 : ga_ckR (fun pc => ga_ckI (am_FL fl_r) (am_ML ml_r) (am_GS gs_r) (am_GS lc_r) am_G 8 prog_2_method_27_code pc (cd_r_testShape pc)) 0 150 = true := by decide +kernel
theorem ck_r_testShape_150 : ga_ckR (fun pc => ga_ckI (am_FL fl_r) (am_ML ml_r) (am_GS gs_r) (am_GS lc_r) am_G 8 prog_2_method_27_code pc (cd_r_testShape pc)) 150 300 = true := by decide +kernel
theorem ck_r_testShape_300 : ga_ckR (fun pc => ga_ckI (am_FL fl_r) (am_ML ml_r) (am_GS gs_r) (am_GS lc_r) am_G 8 prog_2_method_27_code pc (cd_r_testShape pc)) 300 450 = true := by decide +kernel
theorem ck_r_testShape_450 : ga_ckR (fun pc => ga_ckI (am_FL fl_r) (am_ML ml_r) (am_GS gs_r) (am_GS lc_r) am_G 8 prog_2_method_27_code pc (cd_r_testShape pc)) 450 534 = true := by decide +kernel
theorem ck_r_testShape : ga_ckM (am_FL fl_r) (am_ML ml_r) (am_GS gs_r) (am_GS lc_r) am_G 8 prog_2_method_27_code cd_r_testShape 534 = true := ga_ckR_all (ga_ckR_cat (ga_ckR_cat (ga_ckR_cat (ck_r_testShape_0) ck_r_testShape_150) ck_r_testShape_300) ck_r_testShape_450)
theorem ck_r_phraseShape_0 : ga_ckR (fun pc => ga_ckI (am_FL fl_r) (am_ML ml_r) (am_GS gs_r) (am_GS lc_r) am_G 4 prog_2_method_28_code pc (cd_r_phraseShape pc)) 0 150 = true := by decide +kernel
theorem ck_r_phraseShape_150 : ga_ckR (fun pc => ga_ckI (am_FL fl_r) (am_ML ml_r) (am_GS gs_r) (am_GS lc_r) am_G 4 prog_2_method_28_code pc (cd_r_phraseShape pc)) 150 300 = true := by decide +kernel
theorem ck_r_phraseShape_300 : ga_ckR (fun pc => ga_ckI (am_FL fl_r) (am_ML ml_r) (am_GS gs_r) (am_GS lc_r) am_G 4 prog_2_method_28_code pc (cd_r_phraseShape pc)) 300 360 = true := by decide +kernel
theorem ck_r_phraseShape : ga_ckM (am_FL fl_r) (am_ML ml_r) (am_GS gs_r) (am_GS lc_r) am_G 4 prog_2_method_28_code cd_r_phraseShape 360 = true := ga_ckR_all (ga_ckR_cat (ga_ckR_cat (ck_r_phraseShape_0) ck_r_phraseShape_150) ck_r_phraseShape_300)
theorem ck_r_note : ga_ckM (am_FL fl_r) (am_ML ml_r) (am_GS gs_r) (am_GS lc_r) am_G 5 prog_2_method_29_code cd_r_note 100 = true := by decide +kernel
theorem ck_r_mean : ga_ckM (am_FL fl_r) (am_ML ml_r) (am_GS gs_r) (am_GS lc_r) am_G 4 prog_2_method_30_code cd_r_mean 22 = true := by decide +kernel
theorem ck_r_need : ga_ckM (am_FL fl_r) (am_ML ml_r) (am_GS gs_r) (am_GS lc_r) am_G 5 prog_2_method_31_code cd_r_need 24 = true := by decide +kernel
theorem ck_r_kindNamed : ga_ckM (am_FL fl_r) (am_ML ml_r) (am_GS gs_r) (am_GS lc_r) am_G 5 prog_2_method_32_code cd_r_kindNamed 42 = true := by decide +kernel
theorem ck_r_needKind : ga_ckM (am_FL fl_r) (am_ML ml_r) (am_GS gs_r) (am_GS lc_r) am_G 4 prog_2_method_33_code cd_r_needKind 20 = true := by decide +kernel
theorem ck_r_typeNamed : ga_ckM (am_FL fl_r) (am_ML ml_r) (am_GS gs_r) (am_GS lc_r) am_G 5 prog_2_method_34_code cd_r_typeNamed 45 = true := by decide +kernel
theorem ck_r_isSame : ga_ckM (am_FL fl_r) (am_ML ml_r) (am_GS gs_r) (am_GS lc_r) am_G 8 prog_2_method_35_code cd_r_isSame 161 = true := by decide +kernel
theorem ck_r_isNew : ga_ckM (am_FL fl_r) (am_ML ml_r) (am_GS gs_r) (am_GS lc_r) am_G 7 prog_2_method_36_code cd_r_isNew 141 = true := by decide +kernel
theorem ck_r_objectsOrNew : ga_ckM (am_FL fl_r) (am_ML ml_r) (am_GS gs_r) (am_GS lc_r) am_G 6 prog_2_method_37_code cd_r_objectsOrNew 115 = true := by decide +kernel
theorem ck_r_objectAt : ga_ckM (am_FL fl_r) (am_ML ml_r) (am_GS gs_r) (am_GS lc_r) am_G 2 prog_2_method_38_code cd_r_objectAt 18 = true := by decide +kernel
theorem ck_r_adjective : ga_ckM (am_FL fl_r) (am_ML ml_r) (am_GS gs_r) (am_GS lc_r) am_G 7 prog_2_method_39_code cd_r_adjective 168 = true := by decide +kernel
theorem ck_r_ways : ga_ckM (am_FL fl_r) (am_ML ml_r) (am_GS gs_r) (am_GS lc_r) am_G 12 prog_2_method_40_code cd_r_ways 156 = true := by decide +kernel
theorem ck_r_description : ga_ckM (am_FL fl_r) (am_ML ml_r) (am_GS gs_r) (am_GS lc_r) am_G 11 prog_2_method_41_code cd_r_description 150 = true := by decide +kernel
theorem ck_r_needDescription : ga_ckM (am_FL fl_r) (am_ML ml_r) (am_GS gs_r) (am_GS lc_r) am_G 3 prog_2_method_42_code cd_r_needDescription 21 = true := by decide +kernel

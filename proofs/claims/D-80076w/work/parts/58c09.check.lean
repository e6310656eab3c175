/-! the code tables against the bytes, by program (gen13.py) -/
theorem ck_m_kindOfThing : ga_ckM (am_FL fl_m) (am_ML ml_m) (am_GS gs_m) (am_GS lc_m) am_G 2 prog_11_method_77_code cd_m_kindOfThing 42 = true := by decide +kernel
theorem ck_m_meant : ga_ckM (am_FL fl_m) (am_ML ml_m) (am_GS gs_m) (am_GS lc_m) am_G 6 prog_11_method_78_code cd_m_meant 107 = true := by decide +kernel
theorem ck_m_thingOf : ga_ckM (am_FL fl_m) (am_ML ml_m) (am_GS gs_m) (am_GS lc_m) am_G 4 prog_11_method_79_code cd_m_thingOf 98 = true := by decide +kernel
theorem ck_m_objectOf : ga_ckM (am_FL fl_m) (am_ML ml_m) (am_GS gs_m) (am_GS lc_m) am_G 5 prog_11_method_80_code cd_m_objectOf 79 = true := by decide +kernel
theorem ck_m_fits : ga_ckM (am_FL fl_m) (am_ML ml_m) (am_GS gs_m) (am_GS lc_m) am_G 3 prog_11_method_81_code cd_m_fits 25 = true := by decide +kernel
theorem ck_m_sayings : ga_ckM (am_FL fl_m) (am_ML ml_m) (am_GS gs_m) (am_GS lc_m) am_G 10 prog_11_method_82_code cd_m_sayings 150 = true := by decide +kernel
theorem ck_m_propertyMeant : ga_ckM (am_FL fl_m) (am_ML ml_m) (am_GS gs_m) (am_GS lc_m) am_G 4 prog_11_method_83_code cd_m_propertyMeant 78 = true := by decide +kernel
theorem ck_m_numberMeant : ga_ckM (am_FL fl_m) (am_ML ml_m) (am_GS gs_m) (am_GS lc_m) am_G 3 prog_11_method_84_code cd_m_numberMeant 39 = true := by decide +kernel
theorem ck_m_whatMeant : ga_ckM (am_FL fl_m) (am_ML ml_m) (am_GS gs_m) (am_GS lc_m) am_G 7 prog_11_method_85_code cd_m_whatMeant 162 = true := by decide +kernel
theorem ck_m_kindOfWay : ga_ckM (am_FL fl_m) (am_ML ml_m) (am_GS gs_m) (am_GS lc_m) am_G 1 prog_11_method_86_code cd_m_kindOfWay 20 = true := by decide +kernel
theorem ck_m_mayHold : ga_ckM (am_FL fl_m) (am_ML ml_m) (am_GS gs_m) (am_GS lc_m) am_G 3 prog_11_method_87_code cd_m_mayHold 41 = true := by decide +kernel
theorem ck_m_testMeant_0 : ga_ckR (fun pc => ga_ckI (am_FL fl_m) (am_ML ml_m) (am_GS gs_m) (am_GS lc_m) am_G 7 prog_11_method_88_code pc (cd_m_testMeant pc)) 0 150 = true := by decide +kernel
theorem ck_m_testMeant_150 : ga_ckR (fun pc => ga_ckI (am_FL fl_m) (am_ML ml_m) (am_GS gs_m) (am_GS lc_m) am_G 7 prog_11_method_88_code pc (cd_m_testMeant pc)) 150 300 = true := by decide +kernel
theorem ck_m_testMeant_300 : ga_ckR (fun pc => ga_ckI (am_FL fl_m) (am_ML ml_m) (am_GS gs_m) (am_GS lc_m) am_G 7 prog_11_method_88_code pc (cd_m_testMeant pc)) 300 430 = true := by decide +kernel
theorem ck_m_testMeant : ga_ckM (am_FL fl_m) (am_ML ml_m) (am_GS gs_m) (am_GS lc_m) am_G 7 prog_11_method_88_code cd_m_testMeant 430 = true := ga_ckR_all (ga_ckR_cat (ga_ckR_cat (ck_m_testMeant_0) ck_m_testMeant_150) ck_m_testMeant_300)
theorem ck_m_testsMeant : ga_ckM (am_FL fl_m) (am_ML ml_m) (am_GS gs_m) (am_GS lc_m) am_G 2 prog_11_method_89_code cd_m_testsMeant 52 = true := by decide +kernel
theorem ck_m_actings : ga_ckM (am_FL fl_m) (am_ML ml_m) (am_GS gs_m) (am_GS lc_m) am_G 9 prog_11_method_90_code cd_m_actings 202 = true := by decide +kernel
theorem ck_m_phraseMeant_0 : ga_ckR (fun pc => ga_ckI (am_FL fl_m) (am_ML ml_m) (am_GS gs_m) (am_GS lc_m) am_G 7 prog_11_method_91_code pc (cd_m_phraseMeant pc)) 0 150 = true := by decide +kernel
theorem ck_m_phraseMeant_150 : ga_ckR (fun pc => ga_ckI (am_FL fl_m) (am_ML ml_m) (am_GS gs_m) (am_GS lc_m) am_G 7 prog_11_method_91_code pc (cd_m_phraseMeant pc)) 150 300 = true := by decide +kernel
theorem ck_m_phraseMeant_300 : ga_ckR (fun pc => ga_ckI (am_FL fl_m) (am_ML ml_m) (am_GS gs_m) (am_GS lc_m) am_G 7 prog_11_method_91_code pc (cd_m_phraseMeant pc)) 300 450 = true := by decide +kernel
theorem ck_m_phraseMeant_450 : ga_ckR (fun pc => ga_ckI (am_FL fl_m) (am_ML ml_m) (am_GS gs_m) (am_GS lc_m) am_G 7 prog_11_method_91_code pc (cd_m_phraseMeant pc)) 450 569 = true := by decide +kernel
theorem ck_m_phraseMeant : ga_ckM (am_FL fl_m) (am_ML ml_m) (am_GS gs_m) (am_GS lc_m) am_G 7 prog_11_method_91_code cd_m_phraseMeant 569 = true := ga_ckR_all (ga_ckR_cat (ga_ckR_cat (ga_ckR_cat (ck_m_phraseMeant_0) ck_m_phraseMeant_150) ck_m_phraseMeant_300) ck_m_phraseMeant_450)
theorem ck_m_actingMeant_0 : ga_ckR (fun pc => ga_ckI (am_FL fl_m) (am_ML ml_m) (am_GS gs_m) (am_GS lc_m) am_G 7 prog_11_method_92_code pc (cd_m_actingMeant pc)) 0 150 = true := by decide +kernel
theorem ck_m_actingMeant_150 : ga_ckR (fun pc => ga_ckI (am_FL fl_m) (am_ML ml_m) (am_GS gs_m) (am_GS lc_m) am_G 7 prog_11_method_92_code pc (cd_m_actingMeant pc)) 150 300 = true := by decide +kernel
theorem ck_m_actingMeant_300 : ga_ckR (fun pc => ga_ckI (am_FL fl_m) (am_ML ml_m) (am_GS gs_m) (am_GS lc_m) am_G 7 prog_11_method_92_code pc (cd_m_actingMeant pc)) 300 450 = true := by decide +kernel
theorem ck_m_actingMeant_450 : ga_ckR (fun pc => ga_ckI (am_FL fl_m) (am_ML ml_m) (am_GS gs_m) (am_GS lc_m) am_G 7 prog_11_method_92_code pc (cd_m_actingMeant pc)) 450 461 = true := by decide +kernel
theorem ck_m_actingMeant : ga_ckM (am_FL fl_m) (am_ML ml_m) (am_GS gs_m) (am_GS lc_m) am_G 7 prog_11_method_92_code cd_m_actingMeant 461 = true := ga_ckR_all (ga_ckR_cat (ga_ckR_cat (ga_ckR_cat (ck_m_actingMeant_0) ck_m_actingMeant_150) ck_m_actingMeant_300) ck_m_actingMeant_450)
theorem ck_m_ruleMeant : ga_ckM (am_FL fl_m) (am_ML ml_m) (am_GS gs_m) (am_GS lc_m) am_G 5 prog_11_method_93_code cd_m_ruleMeant 239 = true := by decide +kernel
theorem ck_m_asked_0 : ga_ckR (fun pc => ga_ckI (am_FL fl_m) (am_ML ml_m) (am_GS gs_m) (am_GS lc_m) am_G 2 prog_11_method_94_code pc (cd_m_asked pc)) 0 150 = true := by decide +kernel
theorem ck_m_asked_150 : ga_ckR (fun pc => ga_ckI (am_FL fl_m) (am_ML ml_m) (am_GS gs_m) (am_GS lc_m) am_G 2 prog_11_method_94_code pc (cd_m_asked pc)) 150 300 = true := by decide +kernel
theorem ck_m_asked_300 : ga_ckR (fun pc => ga_ckI (am_FL fl_m) (am_ML ml_m) (am_GS gs_m) (am_GS lc_m) am_G 2 prog_11_method_94_code pc (cd_m_asked pc)) 300 450 = true := by decide +kernel
theorem ck_m_asked_450 : ga_ckR (fun pc => ga_ckI (am_FL fl_m) (am_ML ml_m) (am_GS gs_m) (am_GS lc_m) am_G 2 prog_11_method_94_code pc (cd_m_asked pc)) 450 532 = true := by decide +kernel
theorem ck_m_asked : ga_ckM (am_FL fl_m) (am_ML ml_m) (am_GS gs_m) (am_GS lc_m) am_G 2 prog_11_method_94_code cd_m_asked 532 = true := ga_ckR_all (ga_ckR_cat (ga_ckR_cat (ga_ckR_cat (ck_m_asked_0) ck_m_asked_150) ck_m_asked_300) ck_m_asked_450)
theorem ck_m_askVerb : ga_ckM (am_FL fl_m) (am_ML ml_m) (am_GS gs_m) (am_GS lc_m) am_G 3 prog_11_method_95_code cd_m_askVerb 128 = true := by decide +kernel
theorem ck_m_askProperty : ga_ckM (am_FL fl_m) (am_ML ml_m) (am_GS gs_m) (am_GS lc_m) am_G 5 prog_11_method_96_code cd_m_askProperty 121 = true := by decide +kernel
theorem ck_m_askKinds : ga_ckM (am_FL fl_m) (am_ML ml_m) (am_GS gs_m) (am_GS lc_m) am_G 6 prog_11_method_97_code cd_m_askKinds 161 = true := by decide +kernel
theorem ck_m_askPlace : ga_ckM (am_FL fl_m) (am_ML ml_m) (am_GS gs_m) (am_GS lc_m) am_G 2 prog_11_method_98_code cd_m_askPlace 60 = true := by decide +kernel
theorem ck_m_askWay : ga_ckM (am_FL fl_m) (am_ML ml_m) (am_GS gs_m) (am_GS lc_m) am_G 3 prog_11_method_99_code cd_m_askWay 172 = true := by decide +kernel
theorem ck_m_askFifteen_0 : ga_ckR (fun pc => ga_ckI (am_FL fl_m) (am_ML ml_m) (am_GS gs_m) (am_GS lc_m) am_G 10 prog_11_method_100_code pc (cd_m_askFifteen pc)) 0 150 = true := by decide +kernel
theorem ck_m_askFifteen_150 : ga_ckR (fun pc => ga_ckI (am_FL fl_m) (am_ML ml_m) (am_GS gs_m) (am_GS lc_m) am_G 10 prog_11_method_100_code pc (cd_m_askFifteen pc)) 150 300 = true := by decide +kernel
theorem ck_m_askFifteen_300 : ga_ckR (fun pc => ga_ckI (am_FL fl_m) (am_ML ml_m) (am_GS gs_m) (am_GS lc_m) am_G 10 prog_11_method_100_code pc (cd_m_askFifteen pc)) 300 450 = true := by decide +kernel
theorem ck_m_askFifteen_450 : ga_ckR (fun pc => ga_ckI (am_FL fl_m) (am_ML ml_m) (am_GS gs_m) (am_GS lc_m) am_G 10 prog_11_method_100_code pc (cd_m_askFifteen pc)) 450 540 = true := by decide +kernel
theorem ck_m_askFifteen : ga_ckM (am_FL fl_m) (am_ML ml_m) (am_GS gs_m) (am_GS lc_m) am_G 10 prog_11_method_100_code cd_m_askFifteen 540 = true := ga_ckR_all (ga_ckR_cat (ga_ckR_cat (ga_ckR_cat (ck_m_askFifteen_0) ck_m_askFifteen_150) ck_m_askFifteen_300) ck_m_askFifteen_450)
theorem ck_m_askValues : ga_ckM (am_FL fl_m) (am_ML ml_m) (am_GS gs_m) (am_GS lc_m) am_G 5 prog_11_method_101_code cd_m_askValues 93 = true := by decide +kernel
theorem ck_m_listOf : ga_ckM (am_FL fl_m) (am_ML ml_m) (am_GS gs_m) (am_GS lc_m) am_G 10 prog_11_method_102_code cd_m_listOf 168 = true := by decide +kernel
theorem ck_m_askSaying : ga_ckM (am_FL fl_m) (am_ML ml_m) (am_GS gs_m) (am_GS lc_m) am_G 10 prog_11_method_103_code cd_m_askSaying 272 = true := by decide +kernel
theorem ck_m_isCommand : ga_ckM (am_FL fl_m) (am_ML ml_m) (am_GS gs_m) (am_GS lc_m) am_G 8 prog_11_method_104_code cd_m_isCommand 290 = true := by decide +kernel
theorem ck_m_slot : ga_ckM (am_FL fl_m) (am_ML ml_m) (am_GS gs_m) (am_GS lc_m) am_G 5 prog_11_method_105_code cd_m_slot 173 = true := by decide +kernel
theorem ck_m_askCommand_0 : ga_ckR (fun pc => ga_ckI (am_FL fl_m) (am_ML ml_m) (am_GS gs_m) (am_GS lc_m) am_G 4 prog_11_method_106_code pc (cd_m_askCommand pc)) 0 150 = true := by decide +kernel
theorem ck_m_askCommand_150 : ga_ckR (fun pc => ga_ckI (am_FL fl_m) (am_ML ml_m) (am_GS gs_m) (am_GS lc_m) am_G 4 prog_11_method_106_code pc (cd_m_askCommand pc)) 150 300 = true := by decide +kernel
theorem ck_m_askCommand_300 : ga_ckR (fun pc => ga_ckI (am_FL fl_m) (am_ML ml_m) (am_GS gs_m) (am_GS lc_m) am_G 4 prog_11_method_106_code pc (cd_m_askCommand pc)) 300 307 = true := by decide +kernel
theorem ck_m_askCommand : ga_ckM (am_FL fl_m) (am_ML ml_m) (am_GS gs_m) (am_GS lc_m) am_G 4 prog_11_method_106_code cd_m_askCommand 307 = true := ga_ckR_all (ga_ckR_cat (ga_ckR_cat (ck_m_askCommand_0) ck_m_askCommand_150) ck_m_askCommand_300)

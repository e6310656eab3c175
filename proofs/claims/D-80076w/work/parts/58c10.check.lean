/-! the code tables against the bytes, by program (gen13.py) -/
theorem ck_m_wrong : ga_ckM (am_FL fl_m) (am_ML ml_m) (am_GS gs_m) (am_GS lc_m) am_G 3 prog_11_method_107_code cd_m_wrong 23 = true := by decide +kernel
theorem ck_m_tellRun : ga_ckM (am_FL fl_m) (am_ML ml_m) (am_GS gs_m) (am_GS lc_m) am_G 4 prog_11_method_108_code cd_m_tellRun 19 = true := by decide +kernel
theorem ck_m_tellIs : ga_ckM (am_FL fl_m) (am_ML ml_m) (am_GS gs_m) (am_GS lc_m) am_G 6 prog_11_method_109_code cd_m_tellIs 70 = true := by decide +kernel
theorem ck_m_isSameText : ga_ckM (am_FL fl_m) (am_ML ml_m) (am_GS gs_m) (am_GS lc_m) am_G 7 prog_11_method_110_code cd_m_isSameText 64 = true := by decide +kernel
theorem ck_m_tellsOtherwise : ga_ckM (am_FL fl_m) (am_ML ml_m) (am_GS gs_m) (am_GS lc_m) am_G 6 prog_11_method_111_code cd_m_tellsOtherwise 43 = true := by decide +kernel
theorem ck_m_tellObject : ga_ckM (am_FL fl_m) (am_ML ml_m) (am_GS gs_m) (am_GS lc_m) am_G 6 prog_11_method_112_code cd_m_tellObject 72 = true := by decide +kernel
theorem ck_m_tellKind : ga_ckM (am_FL fl_m) (am_ML ml_m) (am_GS gs_m) (am_GS lc_m) am_G 6 prog_11_method_113_code cd_m_tellKind 72 = true := by decide +kernel
theorem ck_m_tellRead : ga_ckM (am_FL fl_m) (am_ML ml_m) (am_GS gs_m) (am_GS lc_m) am_G 4 prog_11_method_114_code cd_m_tellRead 40 = true := by decide +kernel
theorem ck_m_isWithin : ga_ckM (am_FL fl_m) (am_ML ml_m) (am_GS gs_m) (am_GS lc_m) am_G 5 prog_11_method_115_code cd_m_isWithin 52 = true := by decide +kernel
theorem ck_m_placeObject : ga_ckM (am_FL fl_m) (am_ML ml_m) (am_GS gs_m) (am_GS lc_m) am_G 4 prog_11_method_116_code cd_m_placeObject 102 = true := by decide +kernel
theorem ck_m_objectTold : ga_ckM (am_FL fl_m) (am_ML ml_m) (am_GS gs_m) (am_GS lc_m) am_G 4 prog_11_method_117_code cd_m_objectTold 27 = true := by decide +kernel
theorem ck_m_doDescribed : ga_ckM (am_FL fl_m) (am_ML ml_m) (am_GS gs_m) (am_GS lc_m) am_G 5 prog_11_method_118_code cd_m_doDescribed 214 = true := by decide +kernel
theorem ck_m_doWay : ga_ckM (am_FL fl_m) (am_ML ml_m) (am_GS gs_m) (am_GS lc_m) am_G 5 prog_11_method_119_code cd_m_doWay 143 = true := by decide +kernel
theorem ck_m_doFifteen_0 : ga_ckR (fun pc => ga_ckI (am_FL fl_m) (am_ML ml_m) (am_GS gs_m) (am_GS lc_m) am_G 5 prog_11_method_120_code pc (cd_m_doFifteen pc)) 0 150 = true := by decide +kernel
theorem ck_m_doFifteen_150 : ga_ckR (fun pc => ga_ckI (am_FL fl_m) (am_ML ml_m) (am_GS gs_m) (am_GS lc_m) am_G 5 prog_11_method_120_code pc (cd_m_doFifteen pc)) 150 300 = true := by decide +kernel
theorem ck_m_doFifteen_300 : ga_ckR (fun pc => ga_ckI (am_FL fl_m) (am_ML ml_m) (am_GS gs_m) (am_GS lc_m) am_G 5 prog_11_method_120_code pc (cd_m_doFifteen pc)) 300 314 = true := by decide +kernel
theorem ck_m_doFifteen : ga_ckM (am_FL fl_m) (am_ML ml_m) (am_GS gs_m) (am_GS lc_m) am_G 5 prog_11_method_120_code cd_m_doFifteen 314 = true := ga_ckR_all (ga_ckR_cat (ga_ckR_cat (ck_m_doFifteen_0) ck_m_doFifteen_150) ck_m_doFifteen_300)
theorem ck_m_doProperty : ga_ckM (am_FL fl_m) (am_ML ml_m) (am_GS gs_m) (am_GS lc_m) am_G 4 prog_11_method_121_code cd_m_doProperty 93 = true := by decide +kernel
theorem ck_m_relate : ga_ckM (am_FL fl_m) (am_ML ml_m) (am_GS gs_m) (am_GS lc_m) am_G 5 prog_11_method_122_code cd_m_relate 112 = true := by decide +kernel
theorem ck_m_doSaying : ga_ckM (am_FL fl_m) (am_ML ml_m) (am_GS gs_m) (am_GS lc_m) am_G 4 prog_11_method_123_code cd_m_doSaying 76 = true := by decide +kernel
theorem ck_m_doKinds_0 : ga_ckR (fun pc => ga_ckI (am_FL fl_m) (am_ML ml_m) (am_GS gs_m) (am_GS lc_m) am_G 19 prog_11_method_124_code pc (cd_m_doKinds pc)) 0 150 = true := by decide +kernel
theorem ck_m_doKinds_150 : ga_ckR (fun pc => ga_ckI (am_FL fl_m) (am_ML ml_m) (am_GS gs_m) (am_GS lc_m) am_G 19 prog_11_method_124_code pc (cd_m_doKinds pc)) 150 300 = true := by decide +kernel
theorem ck_m_doKinds_300 : ga_ckR (fun pc => ga_ckI (am_FL fl_m) (am_ML ml_m) (am_GS gs_m) (am_GS lc_m) am_G 19 prog_11_method_124_code pc (cd_m_doKinds pc)) 300 355 = true := by decide +kernel
theorem ck_m_doKinds : ga_ckM (am_FL fl_m) (am_ML ml_m) (am_GS gs_m) (am_GS lc_m) am_G 19 prog_11_method_124_code cd_m_doKinds 355 = true := ga_ckR_all (ga_ckR_cat (ga_ckR_cat (ck_m_doKinds_0) ck_m_doKinds_150) ck_m_doKinds_300)
theorem ck_m_doPlural : ga_ckM (am_FL fl_m) (am_ML ml_m) (am_GS gs_m) (am_GS lc_m) am_G 6 prog_11_method_125_code cd_m_doPlural 92 = true := by decide +kernel
theorem ck_m_doCommand : ga_ckM (am_FL fl_m) (am_ML ml_m) (am_GS gs_m) (am_GS lc_m) am_G 2 prog_11_method_126_code cd_m_doCommand 67 = true := by decide +kernel
theorem ck_m_doDefined : ga_ckM (am_FL fl_m) (am_ML ml_m) (am_GS gs_m) (am_GS lc_m) am_G 2 prog_11_method_127_code cd_m_doDefined 53 = true := by decide +kernel
theorem ck_m_doHas : ga_ckM (am_FL fl_m) (am_ML ml_m) (am_GS gs_m) (am_GS lc_m) am_G 4 prog_11_method_128_code cd_m_doHas 94 = true := by decide +kernel
theorem ck_m_does1_0 : ga_ckR (fun pc => ga_ckI (am_FL fl_m) (am_ML ml_m) (am_GS gs_m) (am_GS lc_m) am_G 3 prog_11_method_129_code pc (cd_m_does1 pc)) 0 150 = true := by decide +kernel
theorem ck_m_does1_150 : ga_ckR (fun pc => ga_ckI (am_FL fl_m) (am_ML ml_m) (am_GS gs_m) (am_GS lc_m) am_G 3 prog_11_method_129_code pc (cd_m_does1 pc)) 150 300 = true := by decide +kernel
theorem ck_m_does1_300 : ga_ckR (fun pc => ga_ckI (am_FL fl_m) (am_ML ml_m) (am_GS gs_m) (am_GS lc_m) am_G 3 prog_11_method_129_code pc (cd_m_does1 pc)) 300 450 = true := by decide +kernel
theorem ck_m_does1_450 : ga_ckR (fun pc => ga_ckI (am_FL fl_m) (am_ML ml_m) (am_GS gs_m) (am_GS lc_m) am_G 3 prog_11_method_129_code pc (cd_m_does1 pc)) 450 513 = true := by decide +kernel
theorem ck_m_does1 : ga_ckM (am_FL fl_m) (am_ML ml_m) (am_GS gs_m) (am_GS lc_m) am_G 3 prog_11_method_129_code cd_m_does1 513 = true := ga_ckR_all (ga_ckR_cat (ga_ckR_cat (ga_ckR_cat (ck_m_does1_0) ck_m_does1_150) ck_m_does1_300) ck_m_does1_450)
theorem ck_m_failed : ga_ckM (am_FL fl_m) (am_ML ml_m) (am_GS gs_m) (am_GS lc_m) am_G 3 prog_11_method_130_code cd_m_failed 11 = true := by decide +kernel
theorem ck_m_oddOf : ga_ckM (am_FL fl_m) (am_ML ml_m) (am_GS gs_m) (am_GS lc_m) am_G 3 prog_11_method_131_code cd_m_oddOf 67 = true := by decide +kernel
theorem ck_m_readStory : ga_ckM (am_FL fl_m) (am_ML ml_m) (am_GS gs_m) (am_GS lc_m) am_G 4 prog_11_method_132_code cd_m_readStory 174 = true := by decide +kernel
theorem ck_m_read : ga_ckM (am_FL fl_m) (am_ML ml_m) (am_GS gs_m) (am_GS lc_m) am_G 2 prog_11_method_133_code cd_m_read 119 = true := by decide +kernel
theorem ck_m_fault : ga_ckM (am_FL fl_m) (am_ML ml_m) (am_GS gs_m) (am_GS lc_m) am_G 1 prog_11_method_134_code cd_m_fault 5 = true := by decide +kernel
theorem ck_m_holds : ga_ckM (am_FL fl_m) (am_ML ml_m) (am_GS gs_m) (am_GS lc_m) am_G 6 prog_11_method_135_code cd_m_holds 242 = true := by decide +kernel
theorem ck_m_numberOf : ga_ckM (am_FL fl_m) (am_ML ml_m) (am_GS gs_m) (am_GS lc_m) am_G 4 prog_11_method_136_code cd_m_numberOf 167 = true := by decide +kernel

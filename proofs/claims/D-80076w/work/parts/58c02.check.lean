/-! the code tables against the bytes, by program (gen13.py) -/
theorem ck_d_is : ga_ckM (am_FL fl_d) (am_ML ml_d) (am_GS gs_d) (am_GS lc_d) am_G 4 prog_8_method_7_code cd_d_is 69 = true := by decide +kernel
theorem ck_d_find : ga_ckM (am_FL fl_d) (am_ML ml_d) (am_GS gs_d) (am_GS lc_d) am_G 2 prog_8_method_8_code cd_d_find 38 = true := by decide +kernel
theorem ck_d_sort : ga_ckM (am_FL fl_d) (am_ML ml_d) (am_GS gs_d) (am_GS lc_d) am_G 2 prog_8_method_9_code cd_d_sort 21 = true := by decide +kernel
theorem ck_d_of : ga_ckM (am_FL fl_d) (am_ML ml_d) (am_GS gs_d) (am_GS lc_d) am_G 3 prog_8_method_10_code cd_d_of 31 = true := by decide +kernel
theorem ck_d_tell : ga_ckM (am_FL fl_d) (am_ML ml_d) (am_GS gs_d) (am_GS lc_d) am_G 3 prog_8_method_11_code cd_d_tell 90 = true := by decide +kernel
theorem ck_d_entry : ga_ckM (am_FL fl_d) (am_ML ml_d) (am_GS gs_d) (am_GS lc_d) am_G 4 prog_8_method_12_code cd_d_entry 40 = true := by decide +kernel
theorem ck_d_forget : ga_ckM (am_FL fl_d) (am_ML ml_d) (am_GS gs_d) (am_GS lc_d) am_G 4 prog_8_method_13_code cd_d_forget 20 = true := by decide +kernel
theorem ck_t_isLetter : ga_ckM (am_FL fl_t) (am_ML ml_t) (am_GS gs_t) (am_GS lc_t) am_G 1 prog_6_method_2_code cd_t_isLetter 18 = true := by decide +kernel
theorem ck_t_isFigure : ga_ckM (am_FL fl_t) (am_ML ml_t) (am_GS gs_t) (am_GS lc_t) am_G 1 prog_6_method_3_code cd_t_isFigure 18 = true := by decide +kernel
theorem ck_t_take : ga_ckM (am_FL fl_t) (am_ML ml_t) (am_GS gs_t) (am_GS lc_t) am_G 3 prog_6_method_4_code cd_t_take 27 = true := by decide +kernel
theorem ck_t_low : ga_ckM (am_FL fl_t) (am_ML ml_t) (am_GS gs_t) (am_GS lc_t) am_G 3 prog_6_method_5_code cd_t_low 40 = true := by decide +kernel
theorem ck_t_sentence : ga_ckM (am_FL fl_t) (am_ML ml_t) (am_GS gs_t) (am_GS lc_t) am_G 2 prog_6_method_6_code cd_t_sentence 77 = true := by decide +kernel
theorem ck_t_textAlone : ga_ckM (am_FL fl_t) (am_ML ml_t) (am_GS gs_t) (am_GS lc_t) am_G 3 prog_6_method_7_code cd_t_textAlone 63 = true := by decide +kernel
theorem ck_t_inside : ga_ckM (am_FL fl_t) (am_ML ml_t) (am_GS gs_t) (am_GS lc_t) am_G 6 prog_6_method_8_code cd_t_inside 96 = true := by decide +kernel
theorem ck_t_blanks : ga_ckM (am_FL fl_t) (am_ML ml_t) (am_GS gs_t) (am_GS lc_t) am_G 4 prog_6_method_9_code cd_t_blanks 134 = true := by decide +kernel
theorem ck_t_next_0 : ga_ckR (fun pc => ga_ckI (am_FL fl_t) (am_ML ml_t) (am_GS gs_t) (am_GS lc_t) am_G 5 prog_6_method_10_code pc (cd_t_next pc)) 0 150 = true := by decide +kernel
theorem ck_t_next_150 : ga_ckR (fun pc => ga_ckI (am_FL fl_t) (am_ML ml_t) (am_GS gs_t) (am_GS lc_t) am_G 5 prog_6_method_10_code pc (cd_t_next pc)) 150 300 = true := by decide +kernel
theorem ck_t_next_300 : ga_ckR (fun pc => ga_ckI (am_FL fl_t) (am_ML ml_t) (am_GS gs_t) (am_GS lc_t) am_G 5 prog_6_method_10_code pc (cd_t_next pc)) 300 347 = true := by decide +kernel
theorem ck_t_next : ga_ckM (am_FL fl_t) (am_ML ml_t) (am_GS gs_t) (am_GS lc_t) am_G 5 prog_6_method_10_code cd_t_next 347 = true := ga_ckR_all (ga_ckR_cat (ga_ckR_cat (ck_t_next_0) ck_t_next_150) ck_t_next_300)
theorem ck_t_quoted : ga_ckM (am_FL fl_t) (am_ML ml_t) (am_GS gs_t) (am_GS lc_t) am_G 2 prog_6_method_11_code cd_t_quoted 94 = true := by decide +kernel
theorem ck_t_word : ga_ckM (am_FL fl_t) (am_ML ml_t) (am_GS gs_t) (am_GS lc_t) am_G 8 prog_6_method_12_code cd_t_word 131 = true := by decide +kernel
theorem ck_t_number : ga_ckM (am_FL fl_t) (am_ML ml_t) (am_GS gs_t) (am_GS lc_t) am_G 4 prog_6_method_13_code cd_t_number 44 = true := by decide +kernel
theorem ck_r_is : ga_ckM (am_FL fl_r) (am_ML ml_r) (am_GS gs_r) (am_GS lc_r) am_G 3 prog_2_method_2_code cd_r_is 19 = true := by decide +kernel
theorem ck_r_isFree : ga_ckM (am_FL fl_r) (am_ML ml_r) (am_GS gs_r) (am_GS lc_r) am_G 2 prog_2_method_3_code cd_r_isFree 21 = true := by decide +kernel
theorem ck_r_wrong : ga_ckM (am_FL fl_r) (am_ML ml_r) (am_GS gs_r) (am_GS lc_r) am_G 1 prog_2_method_4_code cd_r_wrong 25 = true := by decide +kernel
theorem ck_r_take : ga_ckM (am_FL fl_r) (am_ML ml_r) (am_GS gs_r) (am_GS lc_r) am_G 2 prog_2_method_5_code cd_r_take 41 = true := by decide +kernel
theorem ck_r_takes : ga_ckM (am_FL fl_r) (am_ML ml_r) (am_GS gs_r) (am_GS lc_r) am_G 3 prog_2_method_6_code cd_r_takes 50 = true := by decide +kernel
theorem ck_r_run : ga_ckM (am_FL fl_r) (am_ML ml_r) (am_GS gs_r) (am_GS lc_r) am_G 1 prog_2_method_7_code cd_r_run 86 = true := by decide +kernel
theorem ck_r_article : ga_ckM (am_FL fl_r) (am_ML ml_r) (am_GS gs_r) (am_GS lc_r) am_G 1 prog_2_method_8_code cd_r_article 41 = true := by decide +kernel
theorem ck_r_name : ga_ckM (am_FL fl_r) (am_ML ml_r) (am_GS gs_r) (am_GS lc_r) am_G 1 prog_2_method_9_code cd_r_name 9 = true := by decide +kernel
theorem ck_r_needArticle : ga_ckM (am_FL fl_r) (am_ML ml_r) (am_GS gs_r) (am_GS lc_r) am_G 1 prog_2_method_10_code cd_r_needArticle 43 = true := by decide +kernel
theorem ck_r_separator : ga_ckM (am_FL fl_r) (am_ML ml_r) (am_GS gs_r) (am_GS lc_r) am_G 1 prog_2_method_11_code cd_r_separator 28 = true := by decide +kernel
theorem ck_r_be : ga_ckM (am_FL fl_r) (am_ML ml_r) (am_GS gs_r) (am_GS lc_r) am_G 1 prog_2_method_12_code cd_r_be 71 = true := by decide +kernel

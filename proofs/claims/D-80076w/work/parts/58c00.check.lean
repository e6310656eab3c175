/-! the code tables against the bytes, by program (gen13.py) -/
def ga_ckR (f : Nat → Bool) (a b : Nat) : Bool := ((List.range b).drop a).all f
theorem ga_ckR_cat {f : Nat → Bool} {a m b : Nat} (h1 : ga_ckR f a m = true) (h2 : ga_ckR f m b = true) : ga_ckR f a b = true := by
  refine List.all_eq_true.mpr (fun j hj => ?_)
  obtain ⟨i, hi⟩ := List.mem_iff_getElem?.mp hj
  rw [List.getElem?_drop] at hi
  obtain ⟨h3, h4⟩ := List.getElem?_eq_some_iff.mp hi
  rw [List.getElem_range] at h4
  rw [List.length_range] at h3
  by_cases h : j < m
  · exact am_rd h1 (by omega) h
  · exact am_rd h2 (by omega) (by omega)
theorem ga_ckR_all {FL : Nat → Nat → Nat → Bool} {ML : Nat → Bool → Nat → Nat → Nat → Int → Bool} {GS LC : Nat → Nat → Int → Bool} {G : ga_G} {nL : Nat} {cc : ByteArray} {cd : Nat → ga_I} {n : Nat} (h : ga_ckR (fun pc => ga_ckI FL ML GS LC G nL cc pc (cd pc)) 0 n = true) : ga_ckM FL ML GS LC G nL cc cd n = true := h
theorem ck_x_feed : ga_ckM (am_FL fl_x) (am_ML ml_x) (am_GS gs_x) (am_GS lc_x) am_G 5 prog_1_method_2_code cd_x_feed 71 = true := by decide +kernel
theorem ck_x_wipe : ga_ckM (am_FL fl_x) (am_ML ml_x) (am_GS gs_x) (am_GS lc_x) am_G 2 prog_1_method_3_code cd_x_wipe 12 = true := by decide +kernel
theorem ck_x_read : ga_ckM (am_FL fl_x) (am_ML ml_x) (am_GS gs_x) (am_GS lc_x) am_G 3 prog_1_method_4_code cd_x_read 168 = true := by decide +kernel
theorem ck_x_fault : ga_ckM (am_FL fl_x) (am_ML ml_x) (am_GS gs_x) (am_GS lc_x) am_G 1 prog_1_method_5_code cd_x_fault 8 = true := by decide +kernel
theorem ck_x_many : ga_ckM (am_FL fl_x) (am_ML ml_x) (am_GS gs_x) (am_GS lc_x) am_G 2 prog_1_method_6_code cd_x_many 150 = true := by decide +kernel
theorem ck_x_told : ga_ckM (am_FL fl_x) (am_ML ml_x) (am_GS gs_x) (am_GS lc_x) am_G 2 prog_1_method_7_code cd_x_told 6 = true := by decide +kernel
theorem ck_x_name : ga_ckM (am_FL fl_x) (am_ML ml_x) (am_GS gs_x) (am_GS lc_x) am_G 6 prog_1_method_8_code cd_x_name 134 = true := by decide +kernel
theorem ck_x_kind : ga_ckM (am_FL fl_x) (am_ML ml_x) (am_GS gs_x) (am_GS lc_x) am_G 5 prog_1_method_9_code cd_x_kind 146 = true := by decide +kernel
theorem ck_x_isObject : ga_ckM (am_FL fl_x) (am_ML ml_x) (am_GS gs_x) (am_GS lc_x) am_G 2 prog_1_method_10_code cd_x_isObject 21 = true := by decide +kernel
theorem ck_x_object : ga_ckM (am_FL fl_x) (am_ML ml_x) (am_GS gs_x) (am_GS lc_x) am_G 3 prog_1_method_11_code cd_x_object 64 = true := by decide +kernel
theorem ck_x_is : ga_ckM (am_FL fl_x) (am_ML ml_x) (am_GS gs_x) (am_GS lc_x) am_G 3 prog_1_method_12_code cd_x_is 63 = true := by decide +kernel
theorem ck_x_isOwned : ga_ckM (am_FL fl_x) (am_ML ml_x) (am_GS gs_x) (am_GS lc_x) am_G 3 prog_1_method_13_code cd_x_isOwned 49 = true := by decide +kernel
theorem ck_x_property : ga_ckM (am_FL fl_x) (am_ML ml_x) (am_GS gs_x) (am_GS lc_x) am_G 4 prog_1_method_14_code cd_x_property 65 = true := by decide +kernel
theorem ck_x_letter : ga_ckM (am_FL fl_x) (am_ML ml_x) (am_GS gs_x) (am_GS lc_x) am_G 5 prog_1_method_15_code cd_x_letter 88 = true := by decide +kernel
theorem ck_x_leads : ga_ckM (am_FL fl_x) (am_ML ml_x) (am_GS gs_x) (am_GS lc_x) am_G 3 prog_1_method_16_code cd_x_leads 44 = true := by decide +kernel
theorem ck_x_related : ga_ckM (am_FL fl_x) (am_ML ml_x) (am_GS gs_x) (am_GS lc_x) am_G 4 prog_1_method_17_code cd_x_related 56 = true := by decide +kernel
theorem ck_x_rule : ga_ckM (am_FL fl_x) (am_ML ml_x) (am_GS gs_x) (am_GS lc_x) am_G 4 prog_1_method_18_code cd_x_rule 124 = true := by decide +kernel
theorem ck_x_act : ga_ckM (am_FL fl_x) (am_ML ml_x) (am_GS gs_x) (am_GS lc_x) am_G 5 prog_1_method_19_code cd_x_act 115 = true := by decide +kernel
theorem ck_x_isWords : ga_ckM (am_FL fl_x) (am_ML ml_x) (am_GS gs_x) (am_GS lc_x) am_G 3 prog_1_method_20_code cd_x_isWords 131 = true := by decide +kernel
theorem ck_x_low : ga_ckM (am_FL fl_x) (am_ML ml_x) (am_GS gs_x) (am_GS lc_x) am_G 3 prog_1_method_21_code cd_x_low 28 = true := by decide +kernel
theorem ck_x_isWord : ga_ckM (am_FL fl_x) (am_ML ml_x) (am_GS gs_x) (am_GS lc_x) am_G 7 prog_1_method_22_code cd_x_isWord 78 = true := by decide +kernel
theorem ck_x_named : ga_ckM (am_FL fl_x) (am_ML ml_x) (am_GS gs_x) (am_GS lc_x) am_G 8 prog_1_method_23_code cd_x_named 116 = true := by decide +kernel
theorem ck_x_fits : ga_ckM (am_FL fl_x) (am_ML ml_x) (am_GS gs_x) (am_GS lc_x) am_G 8 prog_1_method_24_code cd_x_fits 145 = true := by decide +kernel
theorem ck_x_slot : ga_ckM (am_FL fl_x) (am_ML ml_x) (am_GS gs_x) (am_GS lc_x) am_G 6 prog_1_method_25_code cd_x_slot 135 = true := by decide +kernel
theorem ck_x_command : ga_ckM (am_FL fl_x) (am_ML ml_x) (am_GS gs_x) (am_GS lc_x) am_G 5 prog_1_method_26_code cd_x_command 120 = true := by decide +kernel
theorem ck_x_outs : ga_ckM (am_FL fl_x) (am_ML ml_x) (am_GS gs_x) (am_GS lc_x) am_G 1 prog_1_method_27_code cd_x_outs 8 = true := by decide +kernel
theorem ck_x_out : ga_ckM (am_FL fl_x) (am_ML ml_x) (am_GS gs_x) (am_GS lc_x) am_G 2 prog_1_method_28_code cd_x_out 33 = true := by decide +kernel
theorem ck_x_clear : ga_ckM (am_FL fl_x) (am_ML ml_x) (am_GS gs_x) (am_GS lc_x) am_G 2 prog_1_method_29_code cd_x_clear 18 = true := by decide +kernel
theorem ck_w_tell : ga_ckM (am_FL fl_w) (am_ML ml_w) (am_GS gs_w) (am_GS lc_w) am_G 4 prog_9_method_2_code cd_w_tell 18 = true := by decide +kernel
theorem ck_w_clear_0 : ga_ckR (fun pc => ga_ckI (am_FL fl_w) (am_ML ml_w) (am_GS gs_w) (am_GS lc_w) am_G 6 prog_9_method_3_code pc (cd_w_clear pc)) 0 150 = true := by decide +kernel
theorem ck_w_clear_150 : ga_ckR (fun pc => ga_ckI (am_FL fl_w) (am_ML ml_w) (am_GS gs_w) (am_GS lc_w) am_G 6 prog_9_method_3_code pc (cd_w_clear pc)) 150 300 = true := by decide +kernel
theorem ck_w_clear_300 : ga_ckR (fun pc => ga_ckI (am_FL fl_w) (am_ML ml_w) (am_GS gs_w) (am_GS lc_w) am_G 6 prog_9_method_3_code pc (cd_w_clear pc)) 300 443 = true := by decide +kernel
theorem ck_w_clear : ga_ckM (am_FL fl_w) (am_ML ml_w) (am_GS gs_w) (am_GS lc_w) am_G 6 prog_9_method_3_code cd_w_clear 443 = true := ga_ckR_all (ga_ckR_cat (ga_ckR_cat (ck_w_clear_0) ck_w_clear_150) ck_w_clear_300)

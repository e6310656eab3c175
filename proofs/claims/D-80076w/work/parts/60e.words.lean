/-! words and items of the constructors, by program (gen60.py) -/
def y_stp : jm_N := (⟨"RuleSentences$Step", "<init>", "()V"⟩, prog_4_method_1_code, 1, none)
theorem wc_stp : Cond.code ⟨"RuleSentences$Step", "<init>", "()V"⟩ prog_4_method_1_code 1 none ∈ ga_gw := am_at_c (k := 1) (i := 94) rfl rfl
theorem wi_stp : Cond.initialized "RuleSentences$Step" ∈ ga_gw := am_at_c (k := 1) (i := 5) rfl rfl
theorem wm_stp : Cond.instanceMethod ⟨"RuleSentences$Step", "<init>", "()V"⟩ ∈ ga_gw := am_at_c (k := 1) (i := 93) rfl rfl
theorem gd_stp : jm_good y_stp := ⟨by decide +kernel, wc_stp, wi_stp, by decide +kernel, by decide +kernel⟩
theorem wn_stp : Cond.instantiable "RuleSentences$Step" 7 ∈ ga_gw := am_at_c (k := 1) (i := 91) rfl rfl
theorem wd_stp : (parseMethodDescriptor y_stp.1.desc).map (fun d => d.parameters.length) = some 0 := by decide +kernel
def y_rul : jm_N := (⟨"RuleSentences$Rule", "<init>", "()V"⟩, prog_3_method_1_code, 2, none)
theorem wc_rul : Cond.code ⟨"RuleSentences$Rule", "<init>", "()V"⟩ prog_3_method_1_code 2 none ∈ ga_gw := am_at_c (k := 1) (i := 87) rfl rfl
theorem wi_rul : Cond.initialized "RuleSentences$Rule" ∈ ga_gw := am_at_c (k := 1) (i := 4) rfl rfl
theorem wm_rul : Cond.instanceMethod ⟨"RuleSentences$Rule", "<init>", "()V"⟩ ∈ ga_gw := am_at_c (k := 1) (i := 86) rfl rfl
theorem gd_rul : jm_good y_rul := ⟨by decide +kernel, wc_rul, wi_rul, by decide +kernel, by decide +kernel⟩
theorem wn_rul : Cond.instantiable "RuleSentences$Rule" 11 ∈ ga_gw := am_at_c (k := 1) (i := 84) rfl rfl
theorem wd_rul : (parseMethodDescriptor y_rul.1.desc).map (fun d => d.parameters.length) = some 0 := by decide +kernel
def y_wds : jm_N := (⟨"RuleSentences$Words", "<init>", "()V"⟩, prog_8_method_1_code, 1, none)
theorem wc_wds : Cond.code ⟨"RuleSentences$Words", "<init>", "()V"⟩ prog_8_method_1_code 1 none ∈ ga_gw := am_at_c (k := 1) (i := 38) rfl rfl
theorem wi_wds : Cond.initialized "RuleSentences$Words" ∈ ga_gw := am_at_c (k := 1) (i := 3) rfl rfl
theorem wm_wds : Cond.instanceMethod ⟨"RuleSentences$Words", "<init>", "()V"⟩ ∈ ga_gw := am_at_c (k := 1) (i := 37) rfl rfl
theorem gd_wds : jm_good y_wds := ⟨by decide +kernel, wc_wds, wi_wds, by decide +kernel, by decide +kernel⟩
theorem wn_wds : Cond.instantiable "RuleSentences$Words" 9 ∈ ga_gw := am_at_c (k := 1) (i := 35) rfl rfl
theorem wd_wds : (parseMethodDescriptor y_wds.1.desc).map (fun d => d.parameters.length) = some 0 := by decide +kernel
def y_wld : jm_N := (⟨"RuleSentences$World", "<init>", "()V"⟩, prog_9_method_1_code, 2, none)
theorem wc_wld : Cond.code ⟨"RuleSentences$World", "<init>", "()V"⟩ prog_9_method_1_code 2 none ∈ ga_gw := am_at_c (k := 1) (i := 32) rfl rfl
theorem wi_wld : Cond.initialized "RuleSentences$World" ∈ ga_gw := am_at_c (k := 1) (i := 2) rfl rfl
theorem wm_wld : Cond.instanceMethod ⟨"RuleSentences$World", "<init>", "()V"⟩ ∈ ga_gw := am_at_c (k := 1) (i := 31) rfl rfl
theorem gd_wld : jm_good y_wld := ⟨by decide +kernel, wc_wld, wi_wld, by decide +kernel, by decide +kernel⟩
theorem wn_wld : Cond.instantiable "RuleSentences$World" 47 ∈ ga_gw := am_at_c (k := 1) (i := 29) rfl rfl
theorem wd_wld : (parseMethodDescriptor y_wld.1.desc).map (fun d => d.parameters.length) = some 0 := by decide +kernel
def y_tks : jm_N := (⟨"RuleSentences$Tokens", "<init>", "()V"⟩, prog_6_method_1_code, 1, none)
theorem wc_tks : Cond.code ⟨"RuleSentences$Tokens", "<init>", "()V"⟩ prog_6_method_1_code 1 none ∈ ga_gw := am_at_c (k := 3) (i := 204) rfl rfl
theorem wi_tks : Cond.initialized "RuleSentences$Tokens" ∈ ga_gw := am_at_c (k := 1) (i := 14) rfl rfl
theorem wm_tks : Cond.instanceMethod ⟨"RuleSentences$Tokens", "<init>", "()V"⟩ ∈ ga_gw := am_at_c (k := 3) (i := 203) rfl rfl
theorem gd_tks : jm_good y_tks := ⟨by decide +kernel, wc_tks, wi_tks, by decide +kernel, by decide +kernel⟩
theorem wn_tks : Cond.instantiable "RuleSentences$Tokens" 10 ∈ ga_gw := am_at_c (k := 3) (i := 201) rfl rfl
theorem wd_tks : (parseMethodDescriptor y_tks.1.desc).map (fun d => d.parameters.length) = some 0 := by decide +kernel
def y_rdr : jm_N := (⟨"RuleSentences$Reader", "<init>", "(LRuleSentences$Tokens;LRuleSentences$World;)V"⟩, prog_2_method_1_code, 3, none)
theorem wc_rdr : Cond.code ⟨"RuleSentences$Reader", "<init>", "(LRuleSentences$Tokens;LRuleSentences$World;)V"⟩ prog_2_method_1_code 3 none ∈ ga_gw := am_at_c (k := 4) (i := 25) rfl rfl
theorem wi_rdr : Cond.initialized "RuleSentences$Reader" ∈ ga_gw := am_at_c (k := 1) (i := 17) rfl rfl
theorem wm_rdr : Cond.instanceMethod ⟨"RuleSentences$Reader", "<init>", "(LRuleSentences$Tokens;LRuleSentences$World;)V"⟩ ∈ ga_gw := am_at_c (k := 4) (i := 24) rfl rfl
theorem gd_rdr : jm_good y_rdr := ⟨by decide +kernel, wc_rdr, wi_rdr, by decide +kernel, by decide +kernel⟩
theorem wn_rdr : Cond.instantiable "RuleSentences$Reader" 73 ∈ ga_gw := am_at_c (k := 4) (i := 22) rfl rfl
theorem wd_rdr : (parseMethodDescriptor y_rdr.1.desc).map (fun d => d.parameters.length) = some 2 := by decide +kernel
def y_trn : jm_N := (⟨"RuleSentences$Turns", "<init>", "(LRuleSentences$World;LRuleSentences$Tokens;)V"⟩, prog_7_method_1_code, 3, none)
theorem wc_trn : Cond.code ⟨"RuleSentences$Turns", "<init>", "(LRuleSentences$World;LRuleSentences$Tokens;)V"⟩ prog_7_method_1_code 3 none ∈ ga_gw := am_at_c (k := 5) (i := 15) rfl rfl
theorem wi_trn : Cond.initialized "RuleSentences$Turns" ∈ ga_gw := am_at_c (k := 1) (i := 18) rfl rfl
theorem wm_trn : Cond.instanceMethod ⟨"RuleSentences$Turns", "<init>", "(LRuleSentences$World;LRuleSentences$Tokens;)V"⟩ ∈ ga_gw := am_at_c (k := 5) (i := 14) rfl rfl
theorem gd_trn : jm_good y_trn := ⟨by decide +kernel, wc_trn, wi_trn, by decide +kernel, by decide +kernel⟩
theorem wn_trn : Cond.instantiable "RuleSentences$Turns" 11 ∈ ga_gw := am_at_c (k := 5) (i := 12) rfl rfl
theorem wd_trn : (parseMethodDescriptor y_trn.1.desc).map (fun d => d.parameters.length) = some 2 := by decide +kernel
def y_rs : jm_N := (⟨"RuleSentences", "<init>", "()V"⟩, prog_1_method_1_code, 1, none)
theorem wc_rs : Cond.code ⟨"RuleSentences", "<init>", "()V"⟩ prog_1_method_1_code 1 none ∈ ga_gw := am_at_c (k := 1) (i := 24) rfl rfl
theorem wi_rs : Cond.initialized "RuleSentences" ∈ ga_gw := am_at_c (k := 1) (i := 1) rfl rfl
theorem wm_rs : Cond.instanceMethod ⟨"RuleSentences", "<init>", "()V"⟩ ∈ ga_gw := am_at_c (k := 1) (i := 23) rfl rfl
theorem gd_rs : jm_good y_rs := ⟨by decide +kernel, wc_rs, wi_rs, by decide +kernel, by decide +kernel⟩
theorem wn_rs : Cond.instantiable "RuleSentences" 10 ∈ ga_gw := am_at_c (k := 1) (i := 21) rfl rfl
theorem wd_rs : (parseMethodDescriptor y_rs.1.desc).map (fun d => d.parameters.length) = some 0 := by decide +kernel
def y_mdl : jm_N := (⟨"RuleSentencesModel", "<init>", "()V"⟩, prog_11_method_2_code, 6, none)
theorem wc_mdl : Cond.code ⟨"RuleSentencesModel", "<init>", "()V"⟩ prog_11_method_2_code 6 none ∈ ga_gw := am_at_c (k := 9) (i := 36) rfl rfl
theorem wi_mdl : Cond.initialized "RuleSentencesModel" ∈ ga_gw := am_at_c (k := 1) (i := 19) rfl rfl
theorem wm_mdl : Cond.instanceMethod ⟨"RuleSentencesModel", "<init>", "()V"⟩ ∈ ga_gw := am_at_c (k := 9) (i := 35) rfl rfl
theorem gd_mdl : jm_good y_mdl := ⟨by decide +kernel, wc_mdl, wi_mdl, by decide +kernel, by decide +kernel⟩
theorem wn_mdl : Cond.instantiable "RuleSentencesModel" 166 ∈ ga_gw := am_at_c (k := 9) (i := 33) rfl rfl
theorem wd_mdl : (parseMethodDescriptor y_mdl.1.desc).map (fun d => d.parameters.length) = some 0 := by decide +kernel
theorem wo_stp : Cond.methodLink "RuleSentences$Step" 1 ⟨"java/lang/Object", "<init>", "()V"⟩ ∈ ga_gw := am_at_c (k := 1) (i := 95) rfl rfl
theorem wo_rul : Cond.methodLink "RuleSentences$Rule" 3 ⟨"java/lang/Object", "<init>", "()V"⟩ ∈ ga_gw := am_at_c (k := 1) (i := 88) rfl rfl
theorem wl_rul_stp : Cond.methodLinkNest "RuleSentences$Rule" 27 ⟨"RuleSentences$Step", "<init>", "()V"⟩ "RuleSentences" ∈ ga_nw := am_at_n (pos := 1092) (by decide +kernel) rfl
theorem wk_rul_stp : Cond.classLink "RuleSentences$Rule" 18 "RuleSentences$Step" ∈ ga_gw := am_at_c (k := 1) (i := 89) rfl rfl
theorem wo_wds : Cond.methodLink "RuleSentences$Words" 3 ⟨"java/lang/Object", "<init>", "()V"⟩ ∈ ga_gw := am_at_c (k := 1) (i := 39) rfl rfl
theorem wo_wld : Cond.methodLink "RuleSentences$World" 3 ⟨"java/lang/Object", "<init>", "()V"⟩ ∈ ga_gw := am_at_c (k := 1) (i := 33) rfl rfl
theorem wl_wld_wds : Cond.methodLinkNest "RuleSentences$World" 11 ⟨"RuleSentences$Words", "<init>", "()V"⟩ "RuleSentences" ∈ ga_nw := am_at_n (pos := 1036) (by decide +kernel) rfl
theorem wl_wld_rul : Cond.methodLink "RuleSentences$World" 127 ⟨"RuleSentences$Rule", "<init>", "()V"⟩ ∈ ga_gw := am_at_c (k := 1) (i := 85) rfl rfl
theorem wk_wld_wds : Cond.classLink "RuleSentences$World" 9 "RuleSentences$Words" ∈ ga_gw := am_at_c (k := 1) (i := 34) rfl rfl
theorem wk_wld_rul : Cond.classLink "RuleSentences$World" 43 "RuleSentences$Rule" ∈ ga_gw := am_at_c (k := 1) (i := 78) rfl rfl
theorem wo_tks : Cond.methodLink "RuleSentences$Tokens" 3 ⟨"java/lang/Object", "<init>", "()V"⟩ ∈ ga_gw := am_at_c (k := 3) (i := 205) rfl rfl
theorem wo_rdr : Cond.methodLink "RuleSentences$Reader" 5 ⟨"java/lang/Object", "<init>", "()V"⟩ ∈ ga_gw := am_at_c (k := 4) (i := 26) rfl rfl
theorem wl_rdr_stp : Cond.methodLinkNest "RuleSentences$Reader" 55 ⟨"RuleSentences$Step", "<init>", "()V"⟩ "RuleSentences" ∈ ga_nw := am_at_n (pos := 4028) (by decide +kernel) rfl
theorem wl_rdr_rul : Cond.methodLink "RuleSentences$Reader" 62 ⟨"RuleSentences$Rule", "<init>", "()V"⟩ ∈ ga_gw := am_at_c (k := 4) (i := 30) rfl rfl
theorem wk_rdr_stp : Cond.classLink "RuleSentences$Reader" 53 "RuleSentences$Step" ∈ ga_gw := am_at_c (k := 4) (i := 27) rfl rfl
theorem wk_rdr_rul : Cond.classLink "RuleSentences$Reader" 60 "RuleSentences$Rule" ∈ ga_gw := am_at_c (k := 4) (i := 29) rfl rfl
theorem wo_trn : Cond.methodLink "RuleSentences$Turns" 3 ⟨"java/lang/Object", "<init>", "()V"⟩ ∈ ga_gw := am_at_c (k := 5) (i := 16) rfl rfl
theorem wo_rs : Cond.methodLink "RuleSentences" 1 ⟨"java/lang/Object", "<init>", "()V"⟩ ∈ ga_gw := am_at_c (k := 1) (i := 25) rfl rfl
theorem wl_rs_wld : Cond.methodLink "RuleSentences" 15 ⟨"RuleSentences$World", "<init>", "()V"⟩ ∈ ga_gw := am_at_c (k := 1) (i := 30) rfl rfl
theorem wl_rs_tks : Cond.methodLinkNest "RuleSentences" 22 ⟨"RuleSentences$Tokens", "<init>", "()V"⟩ "RuleSentences" ∈ ga_nw := am_at_n (pos := 3202) (by decide +kernel) rfl
theorem wl_rs_rdr : Cond.methodLink "RuleSentences" 32 ⟨"RuleSentences$Reader", "<init>", "(LRuleSentences$Tokens;LRuleSentences$World;)V"⟩ ∈ ga_gw := am_at_c (k := 4) (i := 23) rfl rfl
theorem wl_rs_trn : Cond.methodLink "RuleSentences" 41 ⟨"RuleSentences$Turns", "<init>", "(LRuleSentences$World;LRuleSentences$Tokens;)V"⟩ ∈ ga_gw := am_at_c (k := 5) (i := 13) rfl rfl
theorem wk_rs_wld : Cond.classLink "RuleSentences" 13 "RuleSentences$World" ∈ ga_gw := am_at_c (k := 1) (i := 28) rfl rfl
theorem wk_rs_tks : Cond.classLink "RuleSentences" 20 "RuleSentences$Tokens" ∈ ga_gw := am_at_c (k := 3) (i := 200) rfl rfl
theorem wk_rs_rdr : Cond.classLink "RuleSentences" 30 "RuleSentences$Reader" ∈ ga_gw := am_at_c (k := 4) (i := 21) rfl rfl
theorem wk_rs_trn : Cond.classLink "RuleSentences" 39 "RuleSentences$Turns" ∈ ga_gw := am_at_c (k := 5) (i := 11) rfl rfl
theorem wo_mdl : Cond.methodLink "RuleSentencesModel" 3 ⟨"java/lang/Object", "<init>", "()V"⟩ ∈ ga_gw := am_at_c (k := 9) (i := 37) rfl rfl
theorem wl_law_rs : Cond.methodLink "RuleSentencesLaw" 9 ⟨"RuleSentences", "<init>", "()V"⟩ ∈ ga_gw := am_at_c (k := 1) (i := 22) rfl rfl
theorem wl_law_mdl : Cond.methodLink "RuleSentencesLaw" 12 ⟨"RuleSentencesModel", "<init>", "()V"⟩ ∈ ga_gw := am_at_c (k := 9) (i := 34) rfl rfl
theorem wk_law_rs : Cond.classLink "RuleSentencesLaw" 7 "RuleSentences" ∈ ga_gw := am_at_c (k := 1) (i := 20) rfl rfl
theorem wk_law_mdl : Cond.classLink "RuleSentencesLaw" 10 "RuleSentencesModel" ∈ ga_gw := am_at_c (k := 9) (i := 32) rfl rfl
def it_rul_0 : List gk_it := [((4, 2, 0), (0, 8, 0), (5, 9, 0), 1146, 0), ((12, 2, 0), (0, 8, 0), (6, 15, 0), 1149, 0), ((20, 2, 0), (5, 6, 0), (8, 20, 18), 1156, 1089), ((29, 2, 0), (5, 8, 0), (10, 24, 18), 1163, 1089)]
theorem it_rul_0_ck : it_rul_0.all (gk_ckI prog_3_method_1_code "RuleSentences$Rule" (am_T am_Tl_q) 11) = true := by decide +kernel
def it_rul : List gk_it := it_rul_0
theorem it_rul_ck : it_rul.all (gk_ckI prog_3_method_1_code "RuleSentences$Rule" (am_T am_Tl_q) 11) = true := it_rul_0_ck
theorem it_rul_ch : gk_ch 38 it_rul 4 = true := by decide +kernel
theorem it_rul_t : gk_tot it_rul = 4 ∧ gk_tsl it_rul = 30 := by decide +kernel
def it_wds_0 : List gk_it := [((4, 3, 0), (1, 24000, 0), (0, 11, 0), 1040, 0), ((13, 3, 0), (0, 640, 0), (3, 15, 0), 1045, 0), ((22, 3, 0), (0, 640, 0), (4, 19, 0), 1048, 0), ((31, 3, 0), (0, 640, 0), (5, 22, 0), 1051, 0), ((40, 3, 0), (0, 640, 0), (6, 25, 0), 1052, 0), ((49, 3, 0), (1, 1000, 0), (7, 28, 0), 1053, 0)]
theorem it_wds_0_ck : it_wds_0.all (gk_ckI prog_8_method_1_code "RuleSentences$Words" (am_T am_Tl_d) 9) = true := by decide +kernel
def it_wds : List gk_it := it_wds_0
theorem it_wds_ck : it_wds.all (gk_ckI prog_8_method_1_code "RuleSentences$Words" (am_T am_Tl_d) 9) = true := it_wds_0_ck
theorem it_wds_ch : gk_ch 58 it_wds 4 = true := by decide +kernel
theorem it_wds_t : gk_tot it_wds = 6 ∧ gk_tsl it_wds = 27560 := by decide +kernel
def it_wld_0 : List gk_it := [((15, 2, 0), (0, 16, 0), (2, 18, 0), 2215, 0), ((23, 2, 0), (0, 8, 0), (4, 22, 0), 2220, 0), ((31, 2, 0), (0, 64, 0), (6, 25, 0), 2224, 0), ((39, 2, 0), (0, 24, 0), (8, 28, 0), 2229, 0), ((47, 2, 0), (0, 24, 0), (9, 31, 0), 2232, 0), ((55, 2, 0), (0, 24, 0), (10, 34, 0), 2236, 0), ((63, 2, 0), (0, 24, 0), (12, 37, 0), 3003, 0), ((71, 2, 0), (0, 24, 0), (13, 40, 0), 3007, 0), ((79, 2, 0), (4, 24, 0), (14, 45, 43), 3010, 1078), ((88, 2, 2), (7, 40, 24), (15, 51, 49), 3013, 1080), ((100, 2, 0), (0, 12, 0), (17, 54, 0), 3019, 0), ((108, 2, 0), (0, 12, 0), (18, 57, 0), 3023, 0), ((116, 2, 2), (7, 40, 12), (19, 60, 49), 3025, 1080), ((128, 2, 2), (8, 40, 12), (20, 65, 63), 3028, 1082), ((140, 2, 2), (8, 40, 12), (21, 68, 63), 3032, 1082), ((152, 2, 2), (8, 24, 6), (22, 71, 63), 3036, 1082), ((164, 3, 0), (0, 144, 0), (24, 74, 0), 3040, 0), ((173, 3, 0), (0, 144, 0), (25, 77, 0), 3042, 0), ((182, 2, 0), (0, 6, 0), (27, 80, 0), 3047, 0), ((190, 2, 0), (0, 6, 0), (28, 83, 0), 3049, 0), ((198, 2, 0), (2, 6, 0), (29, 86, 0), 3051, 0), ((206, 2, 0), (2, 6, 0), (30, 90, 0), 3053, 0), ((214, 2, 3), (7, 6, 576), (31, 93, 49), 3055, 1080), ((227, 2, 0), (0, 8, 0), (33, 96, 0), 3062, 0), ((235, 2, 0), (0, 12, 0), (35, 99, 0), 3067, 0)]
theorem it_wld_0_ck : it_wld_0.all (gk_ckI prog_9_method_1_code "RuleSentences$World" (am_T am_Tl_w) 47) = true := by decide +kernel
def it_wld_1 : List gk_it := [((243, 2, 0), (4, 24, 0), (37, 102, 43), 3075, 1078), ((252, 2, 0), (0, 20, 0), (39, 105, 0), 3082, 0), ((260, 2, 0), (0, 20, 0), (40, 108, 0), 3085, 0), ((268, 2, 0), (0, 20, 0), (41, 111, 0), 3088, 0), ((276, 2, 0), (0, 20, 0), (42, 114, 0), 3091, 0), ((284, 2, 2), (8, 20, 8), (43, 117, 63), 3094, 1082), ((296, 2, 2), (8, 20, 8), (44, 120, 63), 3097, 1082), ((308, 3, 0), (1, 3000, 0), (45, 123, 0), 3100, 0)]
theorem it_wld_1_ck : it_wld_1.all (gk_ckI prog_9_method_1_code "RuleSentences$World" (am_T am_Tl_w) 47) = true := by decide +kernel
def it_wld : List gk_it := it_wld_0 ++ it_wld_1
theorem it_wld_ck : it_wld.all (gk_ckI prog_9_method_1_code "RuleSentences$World" (am_T am_Tl_w) 47) = true := by unfold it_wld; simp only [List.all_append, Bool.and_eq_true]; exact ⟨it_wld_0_ck, it_wld_1_ck⟩
theorem it_wld_ch : gk_ch 317 it_wld 15 = true := by decide +kernel
theorem it_wld_t : gk_tot it_wld = 263 ∧ gk_tsl it_wld = 10242 := by decide +kernel
def it_tks_0 : List gk_it := [((4, 3, 0), (1, 5000, 0), (0, 9, 0), 3218, 0)]
theorem it_tks_0_ck : it_tks_0.all (gk_ckI prog_6_method_1_code "RuleSentences$Tokens" (am_T am_Tl_t) 10) = true := by decide +kernel
def it_tks : List gk_it := it_tks_0
theorem it_tks_ck : it_tks.all (gk_ckI prog_6_method_1_code "RuleSentences$Tokens" (am_T am_Tl_t) 10) = true := it_tks_0_ck
theorem it_tks_ch : gk_ch 13 it_tks 4 = true := by decide +kernel
theorem it_tks_t : gk_tot it_tks = 1 ∧ gk_tsl it_tks = 5000 := by decide +kernel
def it_tks1_0 : List gk_it := [((20, 3, 0), (6, 5002, 0), (4, 25, 16), 3225, 3217), ((30, 3, 0), (0, 5002, 0), (5, 28, 0), 3228, 0), ((39, 3, 0), (0, 5002, 0), (6, 32, 0), 3231, 0)]
theorem it_tks1_0_ck : it_tks1_0.all (gk_ckI prog_6_method_1_code "RuleSentences$Tokens" (am_T am_Tl_t) 10) = true := by decide +kernel
def it_tks1 : List gk_it := it_tks1_0
theorem it_tks1_ck : it_tks1.all (gk_ckI prog_6_method_1_code "RuleSentences$Tokens" (am_T am_Tl_t) 10) = true := it_tks1_0_ck
theorem it_tks1_ch : gk_ch 48 it_tks1 20 = true := by decide +kernel
theorem it_tks1_t : gk_tot it_tks1 = 3 ∧ gk_tsl it_tks1 = 15006 := by decide +kernel
def it_rdr_0 : List gk_it := [((4, 3, 0), (0, 5000, 0), (10, 11, 0), 4043, 0), ((13, 3, 0), (0, 5000, 0), (11, 17, 0), 4044, 0), ((22, 3, 0), (0, 5000, 0), (13, 20, 0), 4046, 0), ((31, 3, 0), (0, 5000, 0), (14, 23, 0), 4047, 0), ((40, 3, 0), (0, 5000, 0), (26, 26, 0), 4059, 0), ((49, 3, 0), (0, 5000, 0), (27, 29, 0), 4060, 0), ((58, 3, 0), (0, 5000, 0), (29, 32, 0), 4062, 0), ((67, 3, 0), (0, 5000, 0), (30, 35, 0), 4063, 0), ((76, 3, 0), (0, 5000, 0), (42, 38, 0), 4075, 0), ((85, 3, 0), (0, 5000, 0), (43, 41, 0), 4076, 0), ((94, 2, 0), (0, 8, 0), (49, 44, 0), 4082, 0), ((102, 2, 0), (0, 8, 0), (50, 47, 0), 4083, 0), ((110, 2, 0), (0, 8, 0), (51, 50, 0), 4084, 0)]
theorem it_rdr_0_ck : it_rdr_0.all (gk_ckI prog_2_method_1_code "RuleSentences$Reader" (am_T am_Tl_r) 73) = true := by decide +kernel
def it_rdr : List gk_it := it_rdr_0
theorem it_rdr_ck : it_rdr.all (gk_ckI prog_2_method_1_code "RuleSentences$Reader" (am_T am_Tl_r) 73) = true := it_rdr_0_ck
theorem it_rdr_ch : gk_ch 118 it_rdr 4 = true := by decide +kernel
theorem it_rdr_t : gk_tot it_rdr = 13 ∧ gk_tsl it_rdr = 50024 := by decide +kernel
def it_rdr1_0 : List gk_it := [((140, 2, 0), (0, 8, 0), (71, 67, 0), 4102, 0), ((148, 2, 0), (0, 8, 0), (72, 70, 0), 4103, 0)]
theorem it_rdr1_0_ck : it_rdr1_0.all (gk_ckI prog_2_method_1_code "RuleSentences$Reader" (am_T am_Tl_r) 73) = true := by decide +kernel
def it_rdr1 : List gk_it := it_rdr1_0
theorem it_rdr1_ck : it_rdr1.all (gk_ckI prog_2_method_1_code "RuleSentences$Reader" (am_T am_Tl_r) 73) = true := it_rdr1_0_ck
theorem it_rdr1_ch : gk_ch 156 it_rdr1 140 = true := by decide +kernel
theorem it_rdr1_t : gk_tot it_rdr1 = 2 ∧ gk_tsl it_rdr1 = 16 := by decide +kernel
def it_trn_0 : List gk_it := [((4, 3, 0), (1, 2000, 0), (2, 9, 0), 5020, 0), ((13, 1, 2), (8, 4, 24), (9, 17, 15), 5029, 5017), ((24, 1, 0), (0, 4, 0), (10, 20, 0), 5030, 0)]
theorem it_trn_0_ck : it_trn_0.all (gk_ckI prog_7_method_1_code "RuleSentences$Turns" (am_T am_Tl_u) 11) = true := by decide +kernel
def it_trn : List gk_it := it_trn_0
theorem it_trn_ck : it_trn.all (gk_ckI prog_7_method_1_code "RuleSentences$Turns" (am_T am_Tl_u) 11) = true := it_trn_0_ck
theorem it_trn_ch : gk_ch 31 it_trn 4 = true := by decide +kernel
theorem it_trn_t : gk_tot it_trn = 7 ∧ gk_tsl it_trn = 2104 := by decide +kernel
def it_rs_0 : List gk_it := [((4, 3, 0), (1, 5000, 0), (0, 9, 0), 5075, 0)]
theorem it_rs_0_ck : it_rs_0.all (gk_ckI prog_1_method_1_code "RuleSentences" (am_T am_Tl_x) 10) = true := by decide +kernel
def it_rs : List gk_it := it_rs_0
theorem it_rs_ck : it_rs.all (gk_ckI prog_1_method_1_code "RuleSentences" (am_T am_Tl_x) 10) = true := it_rs_0_ck
theorem it_rs_ch : gk_ch 13 it_rs 4 = true := by decide +kernel
theorem it_rs_t : gk_tot it_rs = 1 ∧ gk_tsl it_rs = 5000 := by decide +kernel
def it_rs1_0 : List gk_it := [((84, 2, 0), (0, 50, 0), (7, 48, 0), 5082, 0), ((92, 2, 0), (0, 50, 0), (8, 52, 0), 5083, 0)]
theorem it_rs1_0_ck : it_rs1_0.all (gk_ckI prog_1_method_1_code "RuleSentences" (am_T am_Tl_x) 10) = true := by decide +kernel
def it_rs1 : List gk_it := it_rs1_0
theorem it_rs1_ck : it_rs1.all (gk_ckI prog_1_method_1_code "RuleSentences" (am_T am_Tl_x) 10) = true := it_rs1_0_ck
theorem it_rs1_ch : gk_ch 100 it_rs1 84 = true := by decide +kernel
theorem it_rs1_t : gk_tot it_rs1 = 2 ∧ gk_tsl it_rs1 = 100 := by decide +kernel
def it_mdl_0 : List gk_it := [((4, 3, 0), (1, 5000, 0), (0, 9, 0), 9116, 0), ((13, 3, 0), (1, 5000, 0), (2, 15, 0), 9118, 0), ((22, 3, 0), (0, 5002, 0), (4, 18, 0), 9120, 0), ((31, 3, 0), (0, 5002, 0), (5, 22, 0), 9121, 0), ((40, 3, 0), (0, 5002, 0), (6, 25, 0), 9122, 0), ((49, 3, 0), (3, 5002, 0), (7, 28, 0), 9123, 0), ((58, 2, 0), (3, 55, 0), (9, 32, 0), 9125, 0), ((66, 3, 0), (0, 300, 0), (10, 35, 0), 9126, 0), ((75, 3, 0), (3, 900, 0), (11, 38, 0), 9127, 0), ((84, 3, 0), (0, 300, 0), (12, 41, 0), 9128, 0), ((93, 3, 0), (0, 300, 0), (13, 44, 0), 9129, 0), ((102, 3, 0), (2, 300, 0), (14, 47, 0), 9130, 0), ((111, 2, 0), (0, 16, 0), (17, 51, 0), 9133, 0), ((119, 2, 0), (0, 24, 0), (20, 54, 0), 9136, 0), ((127, 2, 0), (0, 24, 0), (21, 57, 0), 9137, 0), ((135, 2, 0), (0, 24, 0), (22, 60, 0), 9138, 0), ((143, 2, 0), (0, 24, 0), (24, 63, 0), 9140, 0), ((151, 2, 0), (0, 24, 0), (25, 66, 0), 9141, 0), ((159, 2, 0), (0, 24, 0), (26, 69, 0), 9142, 0), ((167, 2, 0), (0, 24, 0), (27, 72, 0), 9143, 0), ((175, 3, 0), (0, 576, 0), (28, 75, 0), 9144, 0), ((184, 3, 0), (0, 384, 0), (29, 78, 0), 9145, 0), ((193, 2, 0), (0, 64, 0), (31, 81, 0), 9147, 0), ((201, 2, 0), (0, 12, 0), (33, 84, 0), 9149, 0), ((209, 3, 0), (2, 192, 0), (34, 87, 0), 9150, 0)]
theorem it_mdl_0_ck : it_mdl_0.all (gk_ckI prog_11_method_2_code "RuleSentencesModel" (am_T am_Tl_m) 166) = true := by decide +kernel
def it_mdl_1 : List gk_it := [((218, 3, 0), (2, 288, 0), (35, 90, 0), 9151, 0), ((227, 3, 0), (0, 288, 0), (36, 93, 0), 9152, 0), ((236, 3, 0), (0, 288, 0), (37, 96, 0), 9153, 0), ((245, 3, 0), (2, 192, 0), (38, 99, 0), 9154, 0), ((254, 3, 0), (0, 192, 0), (39, 102, 0), 9155, 0), ((263, 3, 0), (0, 192, 0), (40, 105, 0), 9156, 0), ((272, 2, 0), (0, 6, 0), (42, 108, 0), 9158, 0), ((280, 2, 0), (0, 6, 0), (43, 111, 0), 9159, 0), ((288, 2, 0), (2, 6, 0), (44, 114, 0), 9160, 0), ((296, 2, 0), (2, 6, 0), (45, 117, 0), 9161, 0), ((304, 3, 0), (2, 3456, 0), (46, 120, 0), 9162, 0), ((313, 2, 0), (0, 8, 0), (48, 123, 0), 9164, 0), ((321, 2, 0), (0, 12, 0), (50, 126, 0), 9166, 0), ((329, 3, 0), (0, 200, 0), (52, 129, 0), 9168, 0), ((338, 3, 0), (0, 200, 0), (53, 132, 0), 9169, 0), ((347, 3, 0), (0, 200, 0), (54, 135, 0), 9170, 0), ((356, 2, 0), (0, 20, 0), (56, 138, 0), 9172, 0), ((364, 2, 0), (0, 20, 0), (57, 141, 0), 9173, 0), ((372, 3, 0), (3, 160, 0), (58, 144, 0), 9174, 0), ((381, 2, 0), (0, 20, 0), (59, 147, 0), 9175, 0), ((389, 3, 0), (0, 2600, 0), (67, 150, 0), 9183, 0), ((398, 3, 0), (0, 2600, 0), (68, 153, 0), 9184, 0), ((407, 3, 0), (0, 1700, 0), (82, 156, 0), 9198, 0), ((416, 3, 0), (2, 1700, 0), (83, 159, 0), 9199, 0), ((425, 3, 0), (0, 1700, 0), (84, 162, 0), 9200, 0)]
theorem it_mdl_1_ck : it_mdl_1.all (gk_ckI prog_11_method_2_code "RuleSentencesModel" (am_T am_Tl_m) 166) = true := by decide +kernel
def it_mdl_2 : List gk_it := [((434, 3, 0), (0, 1700, 0), (85, 165, 0), 9201, 0), ((443, 3, 0), (0, 1700, 0), (86, 168, 0), 9202, 0), ((452, 3, 0), (0, 1700, 0), (87, 171, 0), 9203, 0), ((461, 3, 0), (0, 1700, 0), (88, 174, 0), 9204, 0), ((470, 3, 0), (0, 1700, 0), (89, 177, 0), 9205, 0), ((479, 3, 0), (0, 1700, 0), (90, 180, 0), 9206, 0), ((488, 3, 0), (0, 1700, 0), (91, 183, 0), 9207, 0), ((497, 3, 0), (0, 1700, 0), (92, 186, 0), 9208, 0), ((506, 3, 0), (0, 1700, 0), (95, 189, 0), 9211, 0), ((515, 3, 0), (0, 1700, 0), (96, 192, 0), 9212, 0), ((524, 3, 0), (0, 1700, 0), (97, 195, 0), 9213, 0), ((533, 3, 0), (0, 2600, 0), (107, 198, 0), 9223, 0), ((542, 2, 0), (0, 6, 0), (111, 201, 0), 9227, 0), ((550, 2, 0), (0, 6, 0), (114, 204, 0), 9230, 0), ((558, 3, 0), (0, 2400, 0), (118, 207, 0), 9234, 0), ((567, 3, 0), (2, 2400, 0), (119, 210, 0), 9235, 0), ((576, 3, 0), (0, 2400, 0), (120, 213, 0), 9236, 0), ((585, 3, 0), (0, 2400, 0), (121, 216, 0), 9237, 0), ((594, 3, 0), (0, 2400, 0), (122, 219, 0), 9238, 0), ((603, 3, 0), (0, 2400, 0), (123, 222, 0), 9239, 0), ((612, 3, 0), (0, 2400, 0), (124, 225, 0), 10000, 0), ((621, 3, 0), (0, 2000, 0), (126, 228, 0), 10002, 0), ((630, 3, 0), (0, 2000, 0), (127, 231, 0), 10003, 0), ((639, 2, 0), (0, 24, 0), (131, 234, 0), 10007, 0), ((647, 2, 0), (0, 24, 0), (132, 237, 0), 10008, 0)]
theorem it_mdl_2_ck : it_mdl_2.all (gk_ckI prog_11_method_2_code "RuleSentencesModel" (am_T am_Tl_m) 166) = true := by decide +kernel
def it_mdl_3 : List gk_it := [((655, 2, 0), (0, 24, 0), (133, 240, 0), 10009, 0), ((663, 2, 0), (0, 24, 0), (134, 243, 0), 10010, 0), ((671, 2, 0), (0, 24, 0), (135, 246, 0), 10011, 0), ((679, 3, 0), (0, 144, 0), (136, 249, 0), 10012, 0), ((688, 2, 0), (0, 24, 0), (137, 252, 0), 10013, 0), ((696, 2, 0), (0, 24, 0), (138, 255, 0), 10014, 0), ((704, 2, 0), (0, 24, 0), (139, 258, 0), 10015, 0), ((712, 2, 0), (0, 24, 0), (140, 261, 0), 10016, 0), ((720, 3, 0), (0, 2600, 0), (143, 264, 0), 10018, 0), ((729, 3, 0), (0, 2600, 0), (145, 267, 0), 10020, 0), ((738, 3, 0), (0, 2600, 0), (148, 270, 0), 10023, 0), ((747, 1, 0), (3, 3, 0), (149, 273, 0), 10024, 0), ((754, 2, 0), (3, 8, 0), (152, 276, 0), 10027, 0), ((762, 3, 0), (1, 2000, 0), (155, 279, 0), 10030, 0), ((771, 2, 0), (3, 64, 0), (159, 282, 0), 10034, 0), ((779, 2, 0), (3, 50, 0), (163, 285, 0), 10038, 0)]
theorem it_mdl_3_ck : it_mdl_3.all (gk_ckI prog_11_method_2_code "RuleSentencesModel" (am_T am_Tl_m) 166) = true := by decide +kernel
def it_mdl : List gk_it := it_mdl_0 ++ it_mdl_1 ++ it_mdl_2 ++ it_mdl_3
theorem it_mdl_ck : it_mdl.all (gk_ckI prog_11_method_2_code "RuleSentencesModel" (am_T am_Tl_m) 166) = true := by unfold it_mdl; simp only [List.all_append, Bool.and_eq_true]; exact ⟨⟨⟨it_mdl_0_ck, it_mdl_1_ck⟩, it_mdl_2_ck⟩, it_mdl_3_ck⟩
theorem it_mdl_ch : gk_ch 787 it_mdl 4 = true := by decide +kernel
theorem it_mdl_t : gk_tot it_mdl = 91 ∧ gk_tsl it_mdl = 102032 := by decide +kernel

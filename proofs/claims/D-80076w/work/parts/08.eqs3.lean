set_option maxRecDepth 100000 in
theorem e_r_isSaid (d : Nat) (σ : ga_S) (a1 a2 : Int) : c_r_isSaid (d + 1) σ a1 a2 = r_isSaid_2 d σ a2 a1 :=
  ga_blk_eq am_G (am_run d) mt_r_isSaid 2 0 [(0, 7, 0), (1, 0, a1), (2, 0, a2)] [] σ
set_option maxRecDepth 100000 in
theorem e_r_isSaid_2 (d : Nat) (σ : ga_S) (v2 v3 : Int) : r_isSaid_2 d σ v2 v3 = if v3 < v2 then
    ga_ck v3 5000 (if (σ fT_bytes 0 v3) = 93 then
        some (0, σ)
      else
        if (σ fT_bytes 0 v3) = 91 then
          r_isSaid_39 d σ v2 v3 (w32 (v3 + 1))
        else
          r_isSaid_119 d σ v2 v3)
  else
    some (1, σ) :=
  ga_blk_eq am_G (am_run d) mt_r_isSaid 19 2 [(0, 7, 0), (2, 0, v2), (3, 0, v3)] [] σ
set_option maxRecDepth 100000 in
theorem e_r_isSaid_119 (d : Nat) (σ : ga_S) (v2 v3 : Int) : r_isSaid_119 d σ v2 v3 = r_isSaid_2 d σ v2 (w32 (v3 + 1)) :=
  ga_blk_eq am_G (am_run d) mt_r_isSaid 2 119 [(0, 7, 0), (2, 0, v2), (3, 0, v3)] [] σ
set_option maxRecDepth 100000 in
theorem e_r_isSaid_39 (d : Nat) (σ : ga_S) (v2 v3 v5 : Int) : r_isSaid_39 d σ v2 v3 v5 = if v5 < v2 then
    ga_ck v5 5000 (if (σ fT_bytes 0 v5) = 93 then
        r_isSaid_81 d σ v2 v3 v5
      else
        ga_ck v5 5000 (if (σ fT_bytes 0 v5) = 91 then
            r_isSaid_81 d σ v2 v3 v5
          else
            r_isSaid_39 d σ v2 v3 (w32 (v5 + 1))))
  else
    r_isSaid_81 d σ v2 v3 v5 :=
  ga_blk_eq am_G (am_run d) mt_r_isSaid 19 39 [(0, 7, 0), (2, 0, v2), (3, 0, v3), (5, 0, v5)] [] σ
set_option maxRecDepth 100000 in
theorem e_r_isSaid_81 (d : Nat) (σ : ga_S) (v2 v3 v5 : Int) : r_isSaid_81 d σ v2 v3 v5 = if v5 = v2 then
    some (0, σ)
  else
    ga_ck v5 5000 (if (σ fT_bytes 0 v5) = 91 then
        some (0, σ)
      else
        (c_r_isBracket d σ (w32 (v3 + 1)) v5).bind fun q1 =>
          if q1.1 = 0 then
            some (0, q1.2)
          else
            r_isSaid_119 d q1.2 v2 v5) :=
  ga_blk_eq am_G (am_run d) mt_r_isSaid 19 81 [(0, 7, 0), (2, 0, v2), (3, 0, v3), (5, 0, v5)] [] σ
set_option maxRecDepth 100000 in
theorem e_r_innerThing (d : Nat) (σ : ga_S) (a1 a2 : Int) : c_r_innerThing (d + 1) σ a1 a2 = if a1 < a2 then
    ga_nn (σ fR_inner 0 0) (ga_nn (σ fR_inner 0 0) (ga_ck (w32 (a2 - 1)) 5002 (if (σ fT_kinds (σ fR_inner 0 0) (w32 (a2 - 1))) = 62 then
            if (w32 (a2 - a1)) = 1 then
              r_innerThing_51 d σ
            else
              if (w32 (a2 - a1)) = 2 then
                ga_nn (σ fR_inner 0 0) (ga_nn (σ fR_inner 0 0) (ga_ck a1 5002 (if (σ fT_kinds (σ fR_inner 0 0) a1) = 11 then
                        r_innerThing_51 d σ
                      else
                        r_innerThing_55 d σ)))
              else
                r_innerThing_55 d σ
          else
            r_innerThing_76 d σ a1 a2)))
  else
    r_innerThing_76 d σ a1 a2 :=
  ga_blk_eq am_G (am_run d) mt_r_innerThing 29 0 [(0, 7, 0), (1, 0, a1), (2, 0, a2)] [] σ
set_option maxRecDepth 100000 in
theorem e_r_innerThing_76 (d : Nat) (σ : ga_S) (v1 v2 : Int) : r_innerThing_76 d σ v1 v2 = if v1 < v2 then
    ga_nn (σ fR_inner 0 0) (ga_nn (σ fR_inner 0 0) (ga_ck v1 5002 (ga_nn (σ fT_kinds (σ fR_inner 0 0) v1) ((c_k_isArticle d σ (σ fT_kinds (σ fR_inner 0 0) v1)).bind fun q1 =>
              if q1.1 = 0 then
                r_innerThing_101 d q1.2 v2 v1
              else
                r_innerThing_102 d q1.2 v2 1 v1))))
  else
    r_innerThing_101 d σ v2 v1 :=
  ga_blk_eq am_G (am_run d) mt_r_innerThing 13 76 [(0, 7, 0), (1, 0, v1), (2, 0, v2)] [] σ
set_option maxRecDepth 100000 in
theorem e_r_innerThing_51 (d : Nat) (σ : ga_S) : r_innerThing_51 d σ = r_innerThing_56 d σ 1 :=
  ga_blk_eq am_G (am_run d) mt_r_innerThing 2 51 [(0, 7, 0)] [] σ
set_option maxRecDepth 100000 in
theorem e_r_innerThing_55 (d : Nat) (σ : ga_S) : r_innerThing_55 d σ = r_innerThing_56 d σ 0 :=
  ga_blk_eq am_G (am_run d) mt_r_innerThing 1 55 [(0, 7, 0)] [] σ
set_option maxRecDepth 100000 in
theorem e_r_innerThing_101 (d : Nat) (σ : ga_S) (v2 s0 : Int) : r_innerThing_101 d σ v2 s0 = r_innerThing_102 d σ v2 0 s0 :=
  ga_blk_eq am_G (am_run d) mt_r_innerThing 1 101 [(0, 7, 0), (2, 0, v2)] [(0, s0)] σ
set_option maxRecDepth 100000 in
theorem e_r_innerThing_102 (d : Nat) (σ : ga_S) (v2 s0 s1 : Int) : r_innerThing_102 d σ v2 s0 s1 = r_innerThing_107 d σ v2 (w32 (s1 + s0)) (w32 (s1 + s0)) :=
  ga_blk_eq am_G (am_run d) mt_r_innerThing 4 102 [(0, 7, 0), (2, 0, v2)] [(0, s0), (0, s1)] σ
set_option maxRecDepth 100000 in
theorem e_r_innerThing_56 (d : Nat) (σ : ga_S) (s0 : Int) : r_innerThing_56 d σ s0 = if s0 = 0 then
    some ((-1), σ)
  else
    if (σ fR_nounKind 0 0) = (-1) then
      some ((-1), σ)
    else
      some ((-3), σ) :=
  ga_blk_eq am_G (am_run d) mt_r_innerThing 10 56 [(0, 7, 0)] [(0, s0)] σ
set_option maxRecDepth 100000 in
theorem e_r_innerThing_107 (d : Nat) (σ : ga_S) (v2 v3 v4 : Int) : r_innerThing_107 d σ v2 v3 v4 = if v4 < v2 then
    ga_nn (σ fR_inner 0 0) (ga_nn (σ fR_inner 0 0) (ga_ck v4 5002 (if (σ fT_kinds (σ fR_inner 0 0) v4) = 0 then
            r_innerThing_107 d σ v2 v3 (w32 (v4 + 1))
          else
            some ((-1), σ))))
  else
    if v3 < v2 then
      (c_d_spellT d σ (σ fR_inner 0 0) v3 v2).bind fun q2 =>
        (c_d_of d q2.2 2).bind fun q3 =>
          some (q3.1, q3.2)
    else
      some ((-1), σ) :=
  ga_blk_eq am_G (am_run d) mt_r_innerThing 18 107 [(0, 7, 0), (2, 0, v2), (3, 0, v3), (4, 0, v4)] [] σ
set_option maxRecDepth 100000 in
theorem e_r_isBracket (d : Nat) (σ : ga_S) (a1 a2 : Int) : c_r_isBracket (d + 1) σ a1 a2 = ga_nn (σ fR_inner 0 0) ((c_t_inside d σ (σ fR_inner 0 0) a1 a2).bind fun q1 =>
      ga_nn (q1.2 fR_inner 0 0) (ga_nn (q1.2 fR_inner 0 0) (if (q1.2 fT_wrong (q1.2 fR_inner 0 0) 0) = (-1) then
            r_isBracket_35 d q1.2 (w32 ((q1.2 fT_count (q1.2 fR_inner 0 0) 0) - 1)) 0
          else
            some (0, q1.2)))) :=
  ga_blk_eq am_G (am_run d) mt_r_isBracket 18 0 [(0, 7, 0), (1, 0, a1), (2, 0, a2)] [] σ
set_option maxRecDepth 100000 in
theorem e_r_isBracket_35 (d : Nat) (σ : ga_S) (v3 v4 : Int) : r_isBracket_35 d σ v3 v4 = if v4 < v3 then
    ga_nn (σ fR_inner 0 0) (ga_nn (σ fR_inner 0 0) (ga_ck v4 5002 (if (σ fT_kinds (σ fR_inner 0 0) v4) = 16 then
            r_isBracket_63 d σ v3 v4
          else
            r_isBracket_35 d σ v3 (w32 (v4 + 1)))))
  else
    r_isBracket_63 d σ v3 v4 :=
  ga_blk_eq am_G (am_run d) mt_r_isBracket 12 35 [(0, 7, 0), (3, 0, v3), (4, 0, v4)] [] σ
set_option maxRecDepth 100000 in
theorem e_r_isBracket_63 (d : Nat) (σ : ga_S) (v3 v4 : Int) : r_isBracket_63 d σ v3 v4 = if v4 = v3 then
    (c_r_innerThing d σ 0 v3).bind fun q2 =>
      if q2.1 = (-1) then
        some (0, q2.2)
      else
        some (1, q2.2)
  else
    if v4 < 2 then
      some (0, σ)
    else
      ga_nn (σ fR_inner 0 0) (ga_nn (σ fR_inner 0 0) (if (σ fT_kinds (σ fR_inner 0 0) 0) = 11 then
            r_isBracket_111 d σ v3 v4 1
          else
            some (0, σ))) :=
  ga_blk_eq am_G (am_run d) mt_r_isBracket 15 63 [(0, 7, 0), (3, 0, v3), (4, 0, v4)] [] σ
set_option maxRecDepth 100000 in
theorem e_r_isBracket_111 (d : Nat) (σ : ga_S) (v3 v4 v5 : Int) : r_isBracket_111 d σ v3 v4 v5 = if v5 < v4 then
    ga_nn (σ fR_inner 0 0) (ga_nn (σ fR_inner 0 0) (ga_ck v5 5002 (if (σ fT_kinds (σ fR_inner 0 0) v5) = 0 then
            r_isBracket_111 d σ v3 v4 (w32 (v5 + 1))
          else
            some (0, σ))))
  else
    (c_r_innerThing d σ (w32 (v4 + 1)) v3).bind fun q3 =>
      (c_d_spellT d q3.2 (q3.2 fR_inner 0 0) 1 v4).bind fun q4 =>
        (c_d_of d q4.2 5).bind fun q5 =>
          if q3.1 = (-1) then
            some (0, q5.2)
          else
            if q5.1 = (-1) then
              some (0, q5.2)
            else
              (c_r_kindOf d q5.2 q3.1).bind fun q6 =>
                (c_w_owns d q6.2 q6.1 q5.1).bind fun q7 =>
                  if q7.1 = 0 then
                    some (0, q7.2)
                  else
                    some (1, q7.2) :=
  ga_blk_eq am_G (am_run d) mt_r_isBracket 39 111 [(0, 7, 0), (3, 0, v3), (4, 0, v4), (5, 0, v5)] [] σ
set_option maxRecDepth 100000 in
theorem e_r_place (d : Nat) (σ : ga_S) : c_r_place (d + 1) σ = (c_r_need d σ (σ fR_placeFrom 0 0) (σ fR_placeTo 0 0) 2).bind fun q1 =>
    if q1.1 = (-1) then
      some (0, (ga_up q1.2 fR_object0 0 0 q1.1))
    else
      if (q1.2 fR_placeSort 0 0) = 1 then
        (c_w_isKind d (ga_up q1.2 fR_object0 0 0 q1.1) q1.1 2).bind fun q5 =>
          if q5.1 = 0 then
            (c_w_isKind d q5.2 q1.1 1).bind fun q6 =>
              if q6.1 = 0 then
                r_place_114 d q6.2 0
              else
                r_place_57 d q6.2
          else
            r_place_57 d q5.2
      else
        if (q1.2 fR_placeSort 0 0) = 2 then
          (c_w_isKind d (ga_up q1.2 fR_object0 0 0 q1.1) q1.1 3).bind fun q4 =>
            r_place_114 d q4.2 q4.1
        else
          if (q1.2 fR_placeSort 0 0) = 3 then
            (c_w_isKind d (ga_up q1.2 fR_object0 0 0 q1.1) q1.1 0).bind fun q3 =>
              r_place_114 d q3.2 q3.1
          else
            (c_w_isKind d (ga_up q1.2 fR_object0 0 0 q1.1) q1.1 4).bind fun q2 =>
              r_place_114 d q2.2 q2.1 :=
  ga_blk_eq am_G (am_run d) mt_r_place 32 0 [(0, 7, 0)] [] σ
set_option maxRecDepth 100000 in
theorem e_r_place_114 (d : Nat) (σ : ga_S) (s0 : Int) : r_place_114 d σ s0 = if s0 = 0 then
    (c_r_note d σ 4 (σ fR_placeFrom 0 0)).bind fun q7 =>
      some (0, q7.2)
  else
    some (0, σ) :=
  ga_blk_eq am_G (am_run d) mt_r_place 9 114 [(0, 7, 0)] [(0, s0)] σ
set_option maxRecDepth 100000 in
theorem e_r_place_57 (d : Nat) (σ : ga_S) : r_place_57 d σ = r_place_114 d σ 1 :=
  ga_blk_eq am_G (am_run d) mt_r_place 2 57 [(0, 7, 0)] [] σ
set_option maxRecDepth 100000 in
theorem e_r_check (d : Nat) (σ : ga_S) : c_r_check (d + 1) σ = if (σ fR_sort 0 0) = 0 then
    if (σ fR_latest 0 0) = (-1) then
      (c_r_note d (ga_up (ga_up (ga_up (ga_up (ga_up (ga_up σ fR_newNames 0 0 0) fR_itKind 0 0 (-1)) fR_nounKind 0 0 (-1)) fR_isDescribed 0 0 0) fR_isTyped 0 0 0) fR_isAdjectival 0 0 0) 4 0).bind fun q35 =>
        some (0, q35.2)
    else
      some (0, (ga_up (ga_up (ga_up (ga_up (ga_up (ga_up σ fR_newNames 0 0 0) fR_itKind 0 0 (-1)) fR_nounKind 0 0 (-1)) fR_isDescribed 0 0 0) fR_isTyped 0 0 0) fR_isAdjectival 0 0 0))
  else
    if (σ fR_sort 0 0) = 1 then
      (c_r_checkCommand d (ga_up (ga_up (ga_up (ga_up (ga_up (ga_up σ fR_newNames 0 0 0) fR_itKind 0 0 (-1)) fR_nounKind 0 0 (-1)) fR_isDescribed 0 0 0) fR_isTyped 0 0 0) fR_isAdjectival 0 0 0)).bind fun q34 =>
        some (0, q34.2)
    else
      if (σ fR_sort 0 0) = 2 then
        (c_r_need d (ga_up (ga_up (ga_up (ga_up (ga_up (ga_up σ fR_newNames 0 0 0) fR_itKind 0 0 (-1)) fR_nounKind 0 0 (-1)) fR_isDescribed 0 0 0) fR_isTyped 0 0 0) fR_isAdjectival 0 0 0) (σ fR_runFrom 0 0) (σ fR_runTo 0 0) 0).bind fun q30 =>
          (c_r_isNew d (ga_up q30.2 fR_kind0 0 0 q30.1) (q30.2 fR_runFrom 0 1) (q30.2 fR_runTo 0 1) (q30.2 fW_adjectives 0 0) 24).bind fun q31 =>
            ga_nn (q31.2 fR_draft 0 0) ((c_q_clear d (ga_up (ga_up q31.2 fR_itKind 0 0 (q31.2 fR_kind0 0 0)) fR_rule 0 0 (q31.2 fR_draft 0 0)) (q31.2 fR_draft 0 0)).bind fun q32 =>
                (c_r_checkTests d q32.2).bind fun q33 =>
                  some (0, q33.2))
      else
        if (σ fR_sort 0 0) = 3 then
          (c_r_checkRule d (ga_up (ga_up (ga_up (ga_up (ga_up (ga_up σ fR_newNames 0 0 0) fR_itKind 0 0 (-1)) fR_nounKind 0 0 (-1)) fR_isDescribed 0 0 0) fR_isTyped 0 0 0) fR_isAdjectival 0 0 0)).bind fun q29 =>
            some (0, q29.2)
        else
          if (σ fR_sort 0 0) = 4 then
            (c_r_checkRule d (ga_up (ga_up (ga_up (ga_up (ga_up (ga_up σ fR_newNames 0 0 0) fR_itKind 0 0 (-1)) fR_nounKind 0 0 (-1)) fR_isDescribed 0 0 0) fR_isTyped 0 0 0) fR_isAdjectival 0 0 0)).bind fun q28 =>
              some (0, q28.2)
          else
            if (σ fR_sort 0 0) = 5 then
              (c_r_checkRule d (ga_up (ga_up (ga_up (ga_up (ga_up (ga_up σ fR_newNames 0 0 0) fR_itKind 0 0 (-1)) fR_nounKind 0 0 (-1)) fR_isDescribed 0 0 0) fR_isTyped 0 0 0) fR_isAdjectival 0 0 0)).bind fun q27 =>
                some (0, q27.2)
            else
              if (σ fR_sort 0 0) = 6 then
                (c_r_checkRule d (ga_up (ga_up (ga_up (ga_up (ga_up (ga_up σ fR_newNames 0 0 0) fR_itKind 0 0 (-1)) fR_nounKind 0 0 (-1)) fR_isDescribed 0 0 0) fR_isTyped 0 0 0) fR_isAdjectival 0 0 0)).bind fun q26 =>
                  some (0, q26.2)
              else
                if (σ fR_sort 0 0) = 7 then
                  (c_d_spellT d (ga_up (ga_up (ga_up (ga_up (ga_up (ga_up σ fR_newNames 0 0 0) fR_itKind 0 0 (-1)) fR_nounKind 0 0 (-1)) fR_isDescribed 0 0 0) fR_isTyped 0 0 0) fR_isAdjectival 0 0 0) 0 (σ fR_runFrom 0 0) (σ fR_runTo 0 0)).bind fun q22 =>
                    (c_d_withS d q22.2).bind fun q23 =>
                      if 1 < (w32 ((q23.2 fR_runTo 0 0) - (q23.2 fR_runFrom 0 0))) then
                        r_check_293 d q23.2
                      else
                        (c_d_find d q23.2).bind fun q24 =>
                          if q24.1 = (-1) then
                            (c_r_isNew d q24.2 (q24.2 fR_runFrom 0 0) (q24.2 fR_runTo 0 0) (q24.2 fW_verbs 0 0) 8).bind fun q25 =>
                              r_check_332 d q25.2
                          else
                            r_check_293 d q24.2
                else
                  if (σ fR_sort 0 0) = 8 then
                    (c_r_kindNamed d (ga_up (ga_up (ga_up (ga_up (ga_up (ga_up σ fR_newNames 0 0 0) fR_itKind 0 0 (-1)) fR_nounKind 0 0 (-1)) fR_isDescribed 0 0 0) fR_isTyped 0 0 0) fR_isAdjectival 0 0 0) (σ fR_runFrom 0 0) (σ fR_runTo 0 0)).bind fun q19 =>
                      (c_r_typeNamed d (ga_up q19.2 fR_kind0 0 0 q19.1) (q19.2 fR_runFrom 0 0) (q19.2 fR_runTo 0 0)).bind fun q20 =>
                        if (q20.2 fR_kind0 0 0) = (-1) then
                          if q20.1 = (-1) then
                            (c_r_note d (ga_up q20.2 fR_object0 0 0 q20.1) 4 (q20.2 fR_runFrom 0 0)).bind fun q21 =>
                              r_check_424 d q21.2
                          else
                            r_check_424 d (ga_up q20.2 fR_object0 0 0 q20.1)
                        else
                          r_check_424 d (ga_up q20.2 fR_object0 0 0 q20.1)
                  else
                    if (σ fR_sort 0 0) = 9 then
                      (c_r_checkProperty d (ga_up (ga_up (ga_up (ga_up (ga_up (ga_up σ fR_newNames 0 0 0) fR_itKind 0 0 (-1)) fR_nounKind 0 0 (-1)) fR_isDescribed 0 0 0) fR_isTyped 0 0 0) fR_isAdjectival 0 0 0)).bind fun q18 =>
                        some (0, q18.2)
                    else
                      if (σ fR_sort 0 0) = 10 then
                        r_check_454 d (ga_up (ga_up (ga_up (ga_up (ga_up (ga_up σ fR_newNames 0 0 0) fR_itKind 0 0 (-1)) fR_nounKind 0 0 (-1)) fR_isDescribed 0 0 0) fR_isTyped 0 0 0) fR_isAdjectival 0 0 0) 0
                      else
                        if (σ fR_sort 0 0) = 11 then
                          r_check_572 d (ga_up (ga_up (ga_up (ga_up (ga_up (ga_up σ fR_newNames 0 0 0) fR_itKind 0 0 (-1)) fR_nounKind 0 0 (-1)) fR_isDescribed 0 0 0) fR_isTyped 0 0 0) fR_isAdjectival 0 0 0) 0
                        else
                          if (σ fR_sort 0 0) = 12 then
                            (c_r_description d (ga_up (ga_up (ga_up (ga_up (ga_up (ga_up σ fR_newNames 0 0 0) fR_itKind 0 0 (-1)) fR_nounKind 0 0 (-1)) fR_isDescribed 0 0 0) fR_isTyped 0 0 0) fR_isAdjectival 0 0 0) (σ fR_runFrom 0 0) (σ fR_runTo 0 0) 0 0 (-1)).bind fun q14 =>
                              (c_r_needDescription d q14.2 (σ fR_runFrom 0 0) q14.1).bind fun q15 =>
                                (c_r_objectsOrNew d (ga_up q15.2 fR_isDescribed 0 0 1) 1 (q15.2 fR_names 0 0)).bind fun q16 =>
                                  if (q16.2 fR_placeSort 0 0) = 0 then
                                    some (0, q16.2)
                                  else
                                    (c_r_place d q16.2).bind fun q17 =>
                                      some (0, q17.2)
                          else
                            if (σ fR_sort 0 0) = 13 then
                              (c_r_objectsOrNew d (ga_up (ga_up (ga_up (ga_up (ga_up (ga_up σ fR_newNames 0 0 0) fR_itKind 0 0 (-1)) fR_nounKind 0 0 (-1)) fR_isDescribed 0 0 0) fR_isTyped 0 0 0) fR_isAdjectival 0 0 0) 1 (σ fR_names 0 0)).bind fun q12 =>
                                (c_r_place d q12.2).bind fun q13 =>
                                  some (0, q13.2)
                            else
                              if (σ fR_sort 0 0) = 14 then
                                (c_r_checkWay d (ga_up (ga_up (ga_up (ga_up (ga_up (ga_up σ fR_newNames 0 0 0) fR_itKind 0 0 (-1)) fR_nounKind 0 0 (-1)) fR_isDescribed 0 0 0) fR_isTyped 0 0 0) fR_isAdjectival 0 0 0)).bind fun q11 =>
                                  some (0, q11.2)
                              else
                                if (σ fR_sort 0 0) = 15 then
                                  (c_r_checkPlain d (ga_up (ga_up (ga_up (ga_up (ga_up (ga_up σ fR_newNames 0 0 0) fR_itKind 0 0 (-1)) fR_nounKind 0 0 (-1)) fR_isDescribed 0 0 0) fR_isTyped 0 0 0) fR_isAdjectival 0 0 0)).bind fun q10 =>
                                    some (0, q10.2)
                                else
                                  if (σ fR_sort 0 0) = 16 then
                                    (c_r_checkValues d (ga_up (ga_up (ga_up (ga_up (ga_up (ga_up σ fR_newNames 0 0 0) fR_itKind 0 0 (-1)) fR_nounKind 0 0 (-1)) fR_isDescribed 0 0 0) fR_isTyped 0 0 0) fR_isAdjectival 0 0 0)).bind fun q9 =>
                                      some (0, q9.2)
                                  else
                                    if (σ fR_sort 0 0) = 17 then
                                      (c_r_checkHas d (ga_up (ga_up (ga_up (ga_up (ga_up (ga_up σ fR_newNames 0 0 0) fR_itKind 0 0 (-1)) fR_nounKind 0 0 (-1)) fR_isDescribed 0 0 0) fR_isTyped 0 0 0) fR_isAdjectival 0 0 0)).bind fun q8 =>
                                        some (0, q8.2)
                                    else
                                      if (σ fR_sort 0 0) = 18 then
                                        (c_r_need d (ga_up (ga_up (ga_up (ga_up (ga_up (ga_up σ fR_newNames 0 0 0) fR_itKind 0 0 (-1)) fR_nounKind 0 0 (-1)) fR_isDescribed 0 0 0) fR_isTyped 0 0 0) fR_isAdjectival 0 0 0) (σ fR_nameFrom 0 0) (σ fR_nameTo 0 0) 0).bind fun q5 =>
                                          (c_r_isNew d (ga_up q5.2 fR_kind0 0 0 q5.1) (q5.2 fR_runFrom 0 0) (q5.2 fR_runTo 0 0) (q5.2 fW_adjectives 0 0) 24).bind fun q6 =>
                                            (c_r_isNew d q6.2 (q6.2 fR_runFrom 0 1) (q6.2 fR_runTo 0 1) (w32 ((q6.2 fW_adjectives 0 0) + 1)) 24).bind fun q7 =>
                                              some (0, q7.2)
                                      else
                                        if (σ fR_sort 0 0) = 19 then
                                          (c_r_isNew d (ga_up (ga_up (ga_up (ga_up (ga_up (ga_up σ fR_newNames 0 0 0) fR_itKind 0 0 (-1)) fR_nounKind 0 0 (-1)) fR_isDescribed 0 0 0) fR_isTyped 0 0 0) fR_isAdjectival 0 0 0) (σ fR_nameFrom 0 0) (σ fR_nameTo 0 0) (σ fW_relations 0 0) 6).bind fun q2 =>
                                            (c_r_needKind d q2.2 (q2.2 fR_runFrom 0 0) (q2.2 fR_runTo 0 0)).bind fun q3 =>
                                              (c_r_needKind d (ga_up q3.2 fR_kind0 0 0 q3.1) (q3.2 fR_runFrom 0 1) (q3.2 fR_runTo 0 1)).bind fun q4 =>
                                                some (0, (ga_up q4.2 fR_object0 0 0 q4.1))
                                        else
                                          (c_r_checkVerb d (ga_up (ga_up (ga_up (ga_up (ga_up (ga_up σ fR_newNames 0 0 0) fR_itKind 0 0 (-1)) fR_nounKind 0 0 (-1)) fR_isDescribed 0 0 0) fR_isTyped 0 0 0) fR_isAdjectival 0 0 0)).bind fun q1 =>
                                            some (0, q1.2) :=
  ga_blk_eq am_G (am_run d) mt_r_check 67 0 [(0, 7, 0)] [] σ
set_option maxRecDepth 100000 in
theorem e_r_check_572 (d : Nat) (σ : ga_S) (v1 : Int) : r_check_572 d σ v1 = if v1 < (σ fR_names 0 0) then
    ga_ck v1 5000 (ga_ck v1 5000 ((c_r_isNew d σ (σ fR_nameFrom 0 v1) (σ fR_nameTo 0 v1) (w32 ((σ fW_actions 0 0) + v1)) 12).bind fun q37 =>
          r_check_572 d q37.2 (w32 (v1 + 1))))
  else
    if (σ fR_runs 0 0) = 0 then
      r_check_642 d σ (-1)
    else
      (c_r_need d σ (σ fR_runFrom 0 0) (σ fR_runTo 0 0) 0).bind fun q36 =>
        r_check_642 d q36.2 q36.1 :=
  ga_blk_eq am_G (am_run d) mt_r_check 22 572 [(0, 7, 0), (1, 0, v1)] [] σ
set_option maxRecDepth 100000 in
theorem e_r_check_454 (d : Nat) (σ : ga_S) (v1 : Int) : r_check_454 d σ v1 = if v1 < (σ fR_names 0 0) then
    ga_ck v1 5000 (ga_ck v1 5000 (if (σ fR_isValue 0 0) = 0 then
          r_check_499 d σ v1 (σ fW_kinds 0 0) (σ fR_nameTo 0 v1) (σ fR_nameFrom 0 v1)
        else
          r_check_499 d σ v1 (σ fW_types 0 0) (σ fR_nameTo 0 v1) (σ fR_nameFrom 0 v1)))
  else
    if (σ fR_isValue 0 0) = 0 then
      if (σ fR_runs 0 0) = 0 then
        r_check_564 d σ 0
      else
        (c_r_need d σ (σ fR_runFrom 0 0) (σ fR_runTo 0 0) 0).bind fun q38 =>
          r_check_564 d q38.2 q38.1
    else
      r_check_564 d σ (-1) :=
  ga_blk_eq am_G (am_run d) mt_r_check 22 454 [(0, 7, 0), (1, 0, v1)] [] σ
set_option maxRecDepth 100000 in
theorem e_r_check_424 (d : Nat) (σ : ga_S) : r_check_424 d σ = (c_r_isNew d σ (σ fR_runFrom 0 1) (σ fR_runTo 0 1) 0 1).bind fun q39 =>
    some (0, q39.2) :=
  ga_blk_eq am_G (am_run d) mt_r_check 14 424 [(0, 7, 0)] [] σ
set_option maxRecDepth 100000 in
theorem e_r_check_293 (d : Nat) (σ : ga_S) : r_check_293 d σ = (c_r_note d σ 3 (σ fR_runFrom 0 0)).bind fun q40 =>
    r_check_332 d q40.2 :=
  ga_blk_eq am_G (am_run d) mt_r_check 8 293 [(0, 7, 0)] [] σ
set_option maxRecDepth 100000 in
theorem e_r_check_332 (d : Nat) (σ : ga_S) : r_check_332 d σ = (c_r_need d σ (σ fR_runFrom 0 1) (σ fR_runTo 0 1) 6).bind fun q41 =>
    some (0, (ga_up q41.2 fR_kind0 0 0 q41.1)) :=
  ga_blk_eq am_G (am_run d) mt_r_check 15 332 [(0, 7, 0)] [] σ
set_option maxRecDepth 100000 in
theorem e_r_check_642 (d : Nat) (σ : ga_S) (s0 : Int) : r_check_642 d σ s0 = some (0, (ga_up σ fR_kind0 0 0 s0)) :=
  ga_blk_eq am_G (am_run d) mt_r_check 3 642 [] [(0, s0), (7, 0)] σ
set_option maxRecDepth 100000 in
theorem e_r_check_564 (d : Nat) (σ : ga_S) (s0 : Int) : r_check_564 d σ s0 = some (0, (ga_up σ fR_kind0 0 0 s0)) :=
  ga_blk_eq am_G (am_run d) mt_r_check 3 564 [] [(0, s0), (7, 0)] σ
set_option maxRecDepth 100000 in
theorem e_r_check_499 (d : Nat) (σ : ga_S) (v1 s0 s1 s2 : Int) : r_check_499 d σ v1 s0 s1 s2 = if (σ fR_isValue 0 0) = 0 then
    r_check_515 d σ v1 16 (w32 (s0 + v1)) s1 s2
  else
    r_check_515 d σ v1 8 (w32 (s0 + v1)) s1 s2 :=
  ga_blk_eq am_G (am_run d) mt_r_check 7 499 [(0, 7, 0), (1, 0, v1)] [(0, s0), (0, s1), (0, s2), (7, 0)] σ
set_option maxRecDepth 100000 in
theorem e_r_check_515 (d : Nat) (σ : ga_S) (v1 s0 s1 s2 s3 : Int) : r_check_515 d σ v1 s0 s1 s2 s3 = (c_r_isNew d σ s3 s2 s1 s0).bind fun q42 =>
    r_check_454 d q42.2 (w32 (v1 + 1)) :=
  ga_blk_eq am_G (am_run d) mt_r_check 3 515 [(0, 7, 0), (1, 0, v1)] [(0, s0), (0, s1), (0, s2), (0, s3), (7, 0)] σ
set_option maxRecDepth 100000 in
theorem e_r_checkTests (d : Nat) (σ : ga_S) : c_r_checkTests (d + 1) σ = r_checkTests_2 d σ 0 :=
  ga_blk_eq am_G (am_run d) mt_r_checkTests 2 0 [(0, 7, 0)] [] σ
set_option maxRecDepth 100000 in
theorem e_r_checkTests_2 (d : Nat) (σ : ga_S) (v1 : Int) : r_checkTests_2 d σ v1 = if v1 < (σ fR_tests 0 0) then
    if v1 < 6 then
      ga_nn (σ fR_rule 0 0) (ga_nn (σ fR_rule 0 0) (ga_ck v1 6 (ga_ck v1 5000 (ga_ck v1 5000 ((c_r_test d σ (14 * (σ fR_rule 0 0) + v1) (σ fR_testFrom 0 v1) (σ fR_testTo 0 v1) 0).bind fun q1 =>
                  r_checkTests_57 d q1.2 v1)))))
    else
      ga_ck v1 5000 ((c_r_note d σ 9 (σ fR_testFrom 0 v1)).bind fun q2 =>
          r_checkTests_57 d q2.2 v1)
  else
    ga_nn (σ fR_rule 0 0) (some (0, (ga_up σ fQ_tests (σ fR_rule 0 0) 0 (σ fR_tests 0 0)))) :=
  ga_blk_eq am_G (am_run d) mt_r_checkTests 23 2 [(0, 7, 0), (1, 0, v1)] [] σ
set_option maxRecDepth 100000 in
theorem e_r_checkTests_57 (d : Nat) (σ : ga_S) (v1 : Int) : r_checkTests_57 d σ v1 = r_checkTests_2 d σ (w32 (v1 + 1)) :=
  ga_blk_eq am_G (am_run d) mt_r_checkTests 2 57 [(0, 7, 0), (1, 0, v1)] [] σ
set_option maxRecDepth 100000 in
theorem e_r_checkRule (d : Nat) (σ : ga_S) : c_r_checkRule (d + 1) σ = ga_nn (σ fR_draft 0 0) ((c_q_clear d (ga_up σ fR_rule 0 0 (σ fR_draft 0 0)) (σ fR_draft 0 0)).bind fun q1 =>
      if (q1.2 fR_sort 0 0) = 3 then
        r_checkRule_56 d q1.2 0 (q1.2 fR_rule 0 0)
      else
        if (q1.2 fR_sort 0 0) = 5 then
          r_checkRule_56 d q1.2 1 (q1.2 fR_rule 0 0)
        else
          if (q1.2 fR_sort 0 0) = 4 then
            r_checkRule_56 d q1.2 2 (q1.2 fR_rule 0 0)
          else
            r_checkRule_56 d q1.2 3 (q1.2 fR_rule 0 0)) :=
  ga_blk_eq am_G (am_run d) mt_r_checkRule 23 0 [(0, 7, 0)] [] σ
set_option maxRecDepth 100000 in
theorem e_r_checkRule_56 (d : Nat) (σ : ga_S) (s0 s1 : Int) : r_checkRule_56 d σ s0 s1 = ga_nn s1 (if (σ fW_rules 0 0) = 24 then
      (c_r_note d (ga_up σ fQ_sort s1 0 s0) 9 0).bind fun q2 =>
        r_checkRule_78 d q2.2
    else
      r_checkRule_78 d (ga_up σ fQ_sort s1 0 s0)) :=
  ga_blk_eq am_G (am_run d) mt_r_checkRule 10 56 [(0, 7, 0)] [(0, s0), (9, s1)] σ
set_option maxRecDepth 100000 in
theorem e_r_checkRule_78 (d : Nat) (σ : ga_S) : r_checkRule_78 d σ = if (σ fR_sort 0 0) = 6 then
    r_checkRule_91 d σ
  else
    (c_r_checkActing d σ).bind fun q3 =>
      r_checkRule_91 d q3.2 :=
  ga_blk_eq am_G (am_run d) mt_r_checkRule 6 78 [(0, 7, 0)] [] σ
set_option maxRecDepth 100000 in
theorem e_r_checkRule_91 (d : Nat) (σ : ga_S) : r_checkRule_91 d σ = (c_r_checkTests d σ).bind fun q4 =>
    ga_nn (q4.2 fR_rule 0 0) (r_checkRule_110 d (ga_up q4.2 fQ_tests (q4.2 fR_rule 0 0) 0 (σ fR_tests 0 0)) 0) :=
  ga_blk_eq am_G (am_run d) mt_r_checkRule 11 91 [(0, 7, 0)] [] σ
set_option maxRecDepth 100000 in
theorem e_r_checkRule_110 (d : Nat) (σ : ga_S) (v2 : Int) : r_checkRule_110 d σ v2 = if v2 < (σ fR_phrases 0 0) then
    if v2 < 8 then
      ga_nn (σ fR_rule 0 0) (ga_nn (σ fR_rule 0 0) (ga_ck v2 8 (ga_ck v2 5000 (ga_ck v2 5000 ((c_r_phrase d σ ((14 * (σ fR_rule 0 0) + v2) + 6) (σ fR_phraseFrom 0 v2) (σ fR_phraseTo 0 v2)).bind fun q5 =>
                  r_checkRule_164 d q5.2 v2)))))
    else
      ga_ck v2 5000 ((c_r_note d σ 9 (σ fR_phraseFrom 0 v2)).bind fun q6 =>
          r_checkRule_164 d q6.2 v2)
  else
    ga_nn (σ fR_rule 0 0) (some (0, (ga_up σ fQ_phrases (σ fR_rule 0 0) 0 (σ fR_phrases 0 0)))) :=
  ga_blk_eq am_G (am_run d) mt_r_checkRule 22 110 [(0, 7, 0), (2, 0, v2)] [] σ
set_option maxRecDepth 100000 in
theorem e_r_checkRule_164 (d : Nat) (σ : ga_S) (v2 : Int) : r_checkRule_164 d σ v2 = r_checkRule_110 d σ (w32 (v2 + 1)) :=
  ga_blk_eq am_G (am_run d) mt_r_checkRule 2 164 [(0, 7, 0), (2, 0, v2)] [] σ
set_option maxRecDepth 100000 in
theorem e_r_checkActing (d : Nat) (σ : ga_S) : c_r_checkActing (d + 1) σ = if 1 < (σ fR_runs 0 0) then
    (c_r_need d σ (σ fR_runFrom 0 0) (σ fR_runTo 0 0) 8).bind fun q2 =>
      if q2.1 = (-1) then
        r_checkActing_57 d q2.2 q2.1
      else
        ga_ck q2.1 12 (if (q2.2 fW_actionKinds 0 q2.1) < 0 then
            (c_r_note d q2.2 4 (q2.2 fR_runFrom 0 1)).bind fun q3 =>
              r_checkActing_57 d q3.2 (-1)
          else
            r_checkActing_57 d q2.2 q2.1)
  else
    (c_r_acting d σ (σ fR_runFrom 0 0) (σ fR_runTo 0 0) 1).bind fun q1 =>
      if q1.1 = 1 then
        ga_nn (q1.2 fR_rule 0 0) (if (q1.2 fR_objectFound 0 0) = (-1) then
            ga_ck (q1.2 fR_actionFound 0 0) 12 (if (q1.2 fW_actionKinds 0 (q1.2 fR_actionFound 0 0)) < 0 then
                r_checkActing_181 d (ga_up q1.2 fQ_object (q1.2 fR_rule 0 0) 0 (q1.2 fR_objectFound 0 0)) (q1.2 fR_actionFound 0 0) (-1)
              else
                ga_ck (q1.2 fR_actionFound 0 0) 12 (r_checkActing_181 d (ga_up q1.2 fQ_object (q1.2 fR_rule 0 0) 0 (q1.2 fR_objectFound 0 0)) (q1.2 fR_actionFound 0 0) (q1.2 fW_actionKinds 0 (q1.2 fR_actionFound 0 0))))
          else
            ga_ck (q1.2 fR_objectFound 0 0) 24 (r_checkActing_181 d (ga_up q1.2 fQ_object (q1.2 fR_rule 0 0) 0 (q1.2 fR_objectFound 0 0)) (q1.2 fR_actionFound 0 0) (q1.2 fW_kindOf 0 (q1.2 fR_objectFound 0 0))))
      else
        if q1.1 = 0 then
          r_checkActing_109 d q1.2 (q1.2 fR_actionFound 0 0) 4
        else
          r_checkActing_109 d q1.2 (q1.2 fR_actionFound 0 0) 7 :=
  ga_blk_eq am_G (am_run d) mt_r_checkActing 44 0 [(0, 7, 0)] [] σ
set_option maxRecDepth 100000 in
theorem e_r_checkActing_181 (d : Nat) (σ : ga_S) (v1 s0 : Int) : r_checkActing_181 d σ v1 s0 = r_checkActing_184 d (ga_up σ fR_nounKind 0 0 s0) v1 :=
  ga_blk_eq am_G (am_run d) mt_r_checkActing 1 181 [(0, 7, 0), (1, 0, v1)] [(0, s0), (7, 0)] σ
set_option maxRecDepth 100000 in
theorem e_r_checkActing_109 (d : Nat) (σ : ga_S) (v1 s0 : Int) : r_checkActing_109 d σ v1 s0 = (c_r_note d σ s0 (σ fR_runFrom 0 0)).bind fun q4 =>
    r_checkActing_184 d q4.2 v1 :=
  ga_blk_eq am_G (am_run d) mt_r_checkActing 6 109 [(0, 7, 0), (1, 0, v1)] [(0, s0), (7, 0)] σ
set_option maxRecDepth 100000 in
theorem e_r_checkActing_57 (d : Nat) (σ : ga_S) (v1 : Int) : r_checkActing_57 d σ v1 = if v1 = (-1) then
    r_checkActing_184 d σ v1
  else
    (c_r_whom d σ v1).bind fun q5 =>
      r_checkActing_184 d q5.2 v1 :=
  ga_blk_eq am_G (am_run d) mt_r_checkActing 7 57 [(0, 7, 0), (1, 0, v1)] [] σ
set_option maxRecDepth 100000 in
theorem e_r_checkActing_184 (d : Nat) (σ : ga_S) (v1 : Int) : r_checkActing_184 d σ v1 = ga_nn (σ fR_rule 0 0) (some (0, (ga_up σ fQ_action (σ fR_rule 0 0) 0 v1))) :=
  ga_blk_eq am_G (am_run d) mt_r_checkActing 5 184 [(0, 7, 0), (1, 0, v1)] [] σ
set_option maxRecDepth 100000 in
theorem e_r_whom (d : Nat) (σ : ga_S) (a1 : Int) : c_r_whom (d + 1) σ a1 = ga_ck a1 12 ((c_r_mean d σ (σ fR_runFrom 0 1) (σ fR_runTo 0 1) 2).bind fun q1 =>
      if q1.1 = (-1) then
        r_whom_49 d q1.2 (σ fW_actionKinds 0 a1) q1.1
      else
        (c_w_isKind d q1.2 q1.1 (σ fW_actionKinds 0 a1)).bind fun q2 =>
          if q2.1 = 0 then
            r_whom_49 d q2.2 (σ fW_actionKinds 0 a1) q1.1
          else
            r_whom_50 d q2.2 (σ fW_actionKinds 0 a1) q1.1 1) :=
  ga_blk_eq am_G (am_run d) mt_r_whom 29 0 [(0, 7, 0), (1, 0, a1)] [] σ
set_option maxRecDepth 100000 in
theorem e_r_whom_49 (d : Nat) (σ : ga_S) (v2 v3 : Int) : r_whom_49 d σ v2 v3 = r_whom_50 d σ v2 v3 0 :=
  ga_blk_eq am_G (am_run d) mt_r_whom 1 49 [(0, 7, 0), (2, 0, v2), (3, 0, v3)] [] σ
set_option maxRecDepth 100000 in
theorem e_r_whom_50 (d : Nat) (σ : ga_S) (v2 v3 s0 : Int) : r_whom_50 d σ v2 v3 s0 = if s0 = 0 then
    r_whom_62 d σ v2 v3 s0 0
  else
    r_whom_62 d σ v2 v3 s0 1 :=
  ga_blk_eq am_G (am_run d) mt_r_whom 5 50 [(0, 7, 0), (2, 0, v2), (3, 0, v3)] [(0, s0)] σ
set_option maxRecDepth 100000 in
theorem e_r_whom_62 (d : Nat) (σ : ga_S) (v2 v3 v4 s0 : Int) : r_whom_62 d σ v2 v3 v4 s0 = (c_r_description d σ (σ fR_runFrom 0 1) (σ fR_runTo 0 1) 0 1 v2).bind fun q3 =>
    if (w32 (s0 + q3.1)) = 1 then
      if v4 = 0 then
        ga_nn (q3.2 fR_rule 0 0) (ga_nn (q3.2 fR_rule 0 0) (r_whom_164 d (ga_up (ga_up q3.2 fQ_kind (q3.2 fR_rule 0 0) 0 (q3.2 fR_describedKind 0 0)) fQ_adjectives (q3.2 fR_rule 0 0) 0 (q3.2 fR_described 0 0)) 0))
      else
        ga_nn (q3.2 fR_rule 0 0) (ga_ck v3 24 (some (0, (ga_up (ga_up q3.2 fQ_object (q3.2 fR_rule 0 0) 0 v3) fR_nounKind 0 0 (q3.2 fW_kindOf 0 v3)))))
    else
      if (w32 (s0 + q3.1)) = 0 then
        r_whom_102 d q3.2 4
      else
        r_whom_102 d q3.2 7 :=
  ga_blk_eq am_G (am_run d) mt_r_whom 32 62 [(0, 7, 0), (2, 0, v2), (3, 0, v3), (4, 0, v4)] [(0, s0)] σ
set_option maxRecDepth 100000 in
theorem e_r_whom_164 (d : Nat) (σ : ga_S) (v6 : Int) : r_whom_164 d σ v6 = if v6 < (σ fR_described 0 0) then
    ga_nn (σ fR_rule 0 0) (ga_ck v6 8 (ga_nn (σ fR_rule 0 0) (ga_ck v6 8 (ga_nn (σ fR_rule 0 0) (ga_ck v6 8 (ga_nn (σ fR_rule 0 0) (ga_ck v6 8 (r_whom_164 d (ga_up (ga_up σ fQ_which (σ fR_rule 0 0) v6 (σ fR_describedWhich 0 v6)) fQ_values (σ fR_rule 0 0) v6 (σ fR_describedValue 0 v6)) (w32 (v6 + 1))))))))))
  else
    some (0, (ga_up σ fR_nounKind 0 0 (σ fR_describedKind 0 0))) :=
  ga_blk_eq am_G (am_run d) mt_r_whom 24 164 [(0, 7, 0), (6, 0, v6)] [] σ
set_option maxRecDepth 100000 in
theorem e_r_whom_102 (d : Nat) (σ : ga_S) (s0 : Int) : r_whom_102 d σ s0 = (c_r_note d σ s0 (σ fR_runFrom 0 1)).bind fun q4 =>
    some (0, q4.2) :=
  ga_blk_eq am_G (am_run d) mt_r_whom 6 102 [(0, 7, 0)] [(0, s0), (7, 0)] σ
set_option maxRecDepth 100000 in
theorem e_r_checkProperty (d : Nat) (σ : ga_S) : c_r_checkProperty (d + 1) σ = (c_r_mean d σ (σ fR_runFrom 0 0) (σ fR_runTo 0 0) 5).bind fun q1 =>
    (c_r_mean d q1.2 (q1.2 fR_nameFrom 0 0) (q1.2 fR_nameTo 0 0) 2).bind fun q2 =>
      (c_r_mean d q2.2 (q2.2 fR_nameFrom 0 0) (q2.2 fR_nameTo 0 0) 0).bind fun q3 =>
        if q2.1 = (-1) then
          if q3.1 = (-1) then
            (c_r_note d q3.2 4 (q3.2 fR_nameFrom 0 0)).bind fun q4 =>
              r_checkProperty_75 d q4.2 q1.1 q2.1 q3.1
          else
            r_checkProperty_75 d q3.2 q1.1 q2.1 q3.1
        else
          r_checkProperty_75 d q3.2 q1.1 q2.1 q3.1 :=
  ga_blk_eq am_G (am_run d) mt_r_checkProperty 49 0 [(0, 7, 0)] [] σ
set_option maxRecDepth 100000 in
theorem e_r_checkProperty_75 (d : Nat) (σ : ga_S) (v1 v2 v3 : Int) : r_checkProperty_75 d σ v1 v2 v3 = if v1 = (-1) then
    r_checkProperty_119 d σ v1 v2 v3
  else
    if v2 = (-1) then
      if v3 = (-1) then
        r_checkProperty_133 d σ v1 v2 v3
      else
        r_checkProperty_90 d σ v1 v2 v3
    else
      r_checkProperty_90 d σ v1 v2 v3 :=
  ga_blk_eq am_G (am_run d) mt_r_checkProperty 9 75 [(0, 7, 0), (1, 0, v1), (2, 0, v2), (3, 0, v3)] [] σ
set_option maxRecDepth 100000 in
theorem e_r_checkProperty_119 (d : Nat) (σ : ga_S) (v1 v2 v3 : Int) : r_checkProperty_119 d σ v1 v2 v3 = (c_r_note d σ 4 (σ fR_runFrom 0 0)).bind fun q5 =>
    r_checkProperty_175 d q5.2 v1 v2 v3 :=
  ga_blk_eq am_G (am_run d) mt_r_checkProperty 8 119 [(0, 7, 0), (1, 0, v1), (2, 0, v2), (3, 0, v3)] [] σ
set_option maxRecDepth 100000 in
theorem e_r_checkProperty_90 (d : Nat) (σ : ga_S) (v1 v2 v3 : Int) : r_checkProperty_90 d σ v1 v2 v3 = if v2 = (-1) then
    r_checkProperty_112 d σ v1 v2 v3 v3
  else
    ga_ck v2 24 (r_checkProperty_112 d σ v1 v2 v3 (σ fW_kindOf 0 v2)) :=
  ga_blk_eq am_G (am_run d) mt_r_checkProperty 11 90 [(0, 7, 0), (1, 0, v1), (2, 0, v2), (3, 0, v3)] [] σ
set_option maxRecDepth 100000 in
theorem e_r_checkProperty_133 (d : Nat) (σ : ga_S) (v1 v2 v3 : Int) : r_checkProperty_133 d σ v1 v2 v3 = ga_ck v1 12 ((c_r_value d σ (0 + 686) (σ fW_propertyTypes 0 v1) (σ fR_whatAt 0 0) (w32 ((σ fT_count 0 0) - 1))).bind fun q6 =>
      if q6.1 = 0 then
        (c_r_note d q6.2 4 (q6.2 fR_whatAt 0 0)).bind fun q7 =>
          r_checkProperty_175 d q7.2 v1 v2 v3
      else
        r_checkProperty_175 d q6.2 v1 v2 v3) :=
  ga_blk_eq am_G (am_run d) mt_r_checkProperty 22 133 [(0, 7, 0), (1, 0, v1), (2, 0, v2), (3, 0, v3)] [] σ
set_option maxRecDepth 100000 in
theorem e_r_checkProperty_175 (d : Nat) (σ : ga_S) (v1 v2 v3 : Int) : r_checkProperty_175 d σ v1 v2 v3 = if v2 = (-1) then
    r_checkProperty_189 d σ v1 (w32 (24 + v3))
  else
    r_checkProperty_189 d σ v1 v2 :=
  ga_blk_eq am_G (am_run d) mt_r_checkProperty 7 175 [(0, 7, 0), (1, 0, v1), (2, 0, v2), (3, 0, v3)] [] σ
set_option maxRecDepth 100000 in
theorem e_r_checkProperty_112 (d : Nat) (σ : ga_S) (v1 v2 v3 s0 : Int) : r_checkProperty_112 d σ v1 v2 v3 s0 = (c_w_owns d σ s0 v1).bind fun q8 =>
    if q8.1 = 0 then
      r_checkProperty_119 d q8.2 v1 v2 v3
    else
      r_checkProperty_133 d q8.2 v1 v2 v3 :=
  ga_blk_eq am_G (am_run d) mt_r_checkProperty 3 112 [(0, 7, 0), (1, 0, v1), (2, 0, v2), (3, 0, v3)] [(0, s0), (4, 0)] σ
set_option maxRecDepth 100000 in
theorem e_r_checkProperty_189 (d : Nat) (σ : ga_S) (v1 s0 : Int) : r_checkProperty_189 d σ v1 s0 = some (0, (ga_up (ga_up σ fR_object0 0 0 s0) fR_kind0 0 0 v1)) :=
  ga_blk_eq am_G (am_run d) mt_r_checkProperty 5 189 [(0, 7, 0), (1, 0, v1)] [(0, s0), (7, 0)] σ
set_option maxRecDepth 100000 in
theorem e_r_checkWay (d : Nat) (σ : ga_S) : c_r_checkWay (d + 1) σ = (c_r_need d σ (σ fR_runFrom 0 0) (σ fR_runTo 0 0) 9).bind fun q1 =>
    (c_r_need d (ga_up q1.2 fR_kind0 0 0 q1.1) (q1.2 fR_runFrom 0 1) (q1.2 fR_runTo 0 1) 2).bind fun q2 =>
      if q2.1 = (-1) then
        r_checkWay_77 d (ga_up q2.2 fR_object0 0 0 q2.1)
      else
        (c_w_isKind d (ga_up q2.2 fR_object0 0 0 q2.1) q2.1 1).bind fun q3 =>
          if q3.1 = 0 then
            (c_r_note d q3.2 4 (q3.2 fR_runFrom 0 1)).bind fun q4 =>
              r_checkWay_77 d q4.2
          else
            r_checkWay_77 d q3.2 :=
  ga_blk_eq am_G (am_run d) mt_r_checkWay 44 0 [(0, 7, 0)] [] σ
set_option maxRecDepth 100000 in
theorem e_r_checkWay_77 (d : Nat) (σ : ga_S) : r_checkWay_77 d σ = if 1 < (σ fR_names 0 0) then
    (c_r_note d σ 4 (σ fR_nameFrom 0 1)).bind fun q5 =>
      r_checkWay_96 d q5.2
  else
    r_checkWay_96 d σ :=
  ga_blk_eq am_G (am_run d) mt_r_checkWay 11 77 [(0, 7, 0)] [] σ
set_option maxRecDepth 100000 in
theorem e_r_checkWay_96 (d : Nat) (σ : ga_S) : r_checkWay_96 d σ = (c_r_objectsOrNew d σ 1 1).bind fun q6 =>
    (c_r_objectAt d q6.2 0).bind fun q7 =>
      if q7.1 = (-1) then
        some (0, q7.2)
      else
        (c_w_isKind d q7.2 q7.1 1).bind fun q8 =>
          if q8.1 = 0 then
            (c_r_note d q8.2 4 (q8.2 fR_nameFrom 0 0)).bind fun q9 =>
              some (0, q9.2)
          else
            some (0, q8.2) :=
  ga_blk_eq am_G (am_run d) mt_r_checkWay 25 96 [(0, 7, 0)] [] σ
set_option maxRecDepth 100000 in
theorem e_r_checkPlain (d : Nat) (σ : ga_S) : c_r_checkPlain (d + 1) σ = if (σ fR_usually 0 0) = 0 then
    if (σ fR_not 0 0) = 0 then
      if (σ fR_names 0 0) = 1 then
        (c_r_typeNamed d σ (σ fR_nameFrom 0 0) (σ fR_nameTo 0 0)).bind fun q1 =>
          if 1 < q1.1 then
            (c_r_checkValues d q1.2).bind fun q2 =>
              some (0, q2.2)
          else
            r_checkPlain_127 d q1.2 (σ fR_runFrom 0 0) (σ fR_runTo 0 0)
      else
        r_checkPlain_127 d σ (σ fR_runFrom 0 0) (σ fR_runTo 0 0)
    else
      r_checkPlain_127 d σ (σ fR_runFrom 0 0) (σ fR_runTo 0 0)
  else
    (c_r_need d σ (σ fR_nameFrom 0 0) (σ fR_nameTo 0 0) 0).bind fun q3 =>
      if 1 < (q3.2 fR_names 0 0) then
        (c_r_note d (ga_up q3.2 fR_kind0 0 0 q3.1) 4 (q3.2 fR_nameFrom 0 1)).bind fun q4 =>
          r_checkPlain_61 d q4.2 (σ fR_runFrom 0 0) (σ fR_runTo 0 0)
      else
        r_checkPlain_61 d (ga_up q3.2 fR_kind0 0 0 q3.1) (σ fR_runFrom 0 0) (σ fR_runTo 0 0) :=
  ga_blk_eq am_G (am_run d) mt_r_checkPlain 37 0 [(0, 7, 0)] [] σ
set_option maxRecDepth 100000 in
theorem e_r_checkPlain_127 (d : Nat) (σ : ga_S) (v1 v2 : Int) : r_checkPlain_127 d σ v1 v2 = (c_d_spellT d σ 0 v1 v2).bind fun q5 =>
    (c_d_sort d q5.2).bind fun q6 =>
      if q6.1 = 3 then
        r_checkPlain_159 d q6.2 v1 v2
      else
        if q6.1 = 4 then
          r_checkPlain_159 d q6.2 v1 v2
        else
          r_checkPlain_164 d q6.2 v1 v2 0 :=
  ga_blk_eq am_G (am_run d) mt_r_checkPlain 19 127 [(0, 7, 0), (1, 0, v1), (2, 0, v2)] [] σ
set_option maxRecDepth 100000 in
theorem e_r_checkPlain_61 (d : Nat) (σ : ga_S) (v1 v2 : Int) : r_checkPlain_61 d σ v1 v2 = if (σ fR_kind0 0 0) = (-1) then
    some (0, σ)
  else
    (c_r_adjective d σ v1 v2 (σ fR_kind0 0 0) 0 0).bind fun q7 =>
      (c_r_needDescription d q7.2 v1 q7.1).bind fun q8 =>
        some (0, q8.2) :=
  ga_blk_eq am_G (am_run d) mt_r_checkPlain 16 61 [(0, 7, 0), (1, 0, v1), (2, 0, v2)] [] σ
set_option maxRecDepth 100000 in
theorem e_r_checkPlain_159 (d : Nat) (σ : ga_S) (v1 v2 : Int) : r_checkPlain_159 d σ v1 v2 = r_checkPlain_164 d σ v1 v2 1 :=
  ga_blk_eq am_G (am_run d) mt_r_checkPlain 2 159 [(0, 7, 0), (1, 0, v1), (2, 0, v2)] [(7, 0)] σ
set_option maxRecDepth 100000 in
theorem e_r_checkPlain_164 (d : Nat) (σ : ga_S) (v1 v2 s0 : Int) : r_checkPlain_164 d σ v1 v2 s0 = ga_01 s0 (if (σ fR_not 0 0) = 0 then
      if (σ fR_verb 0 0) = 14 then
        (c_r_description d (ga_up σ fR_isAdjectival 0 0 s0) v1 v2 1 0 (-1)).bind fun q9 =>
          r_checkPlain_197 d q9.2 v1 v2 q9.1
      else
        r_checkPlain_196 d (ga_up σ fR_isAdjectival 0 0 s0) v1 v2
    else
      r_checkPlain_196 d (ga_up σ fR_isAdjectival 0 0 s0) v1 v2) :=
  ga_blk_eq am_G (am_run d) mt_r_checkPlain 16 164 [(0, 7, 0), (1, 0, v1), (2, 0, v2)] [(0, s0), (7, 0)] σ
set_option maxRecDepth 100000 in
theorem e_r_checkPlain_196 (d : Nat) (σ : ga_S) (v1 v2 : Int) : r_checkPlain_196 d σ v1 v2 = r_checkPlain_197 d σ v1 v2 0 :=
  ga_blk_eq am_G (am_run d) mt_r_checkPlain 1 196 [(0, 7, 0), (1, 0, v1), (2, 0, v2)] [] σ
set_option maxRecDepth 100000 in
theorem e_r_checkPlain_197 (d : Nat) (σ : ga_S) (v1 v2 s0 : Int) : r_checkPlain_197 d σ v1 v2 s0 = if 0 < s0 then
    if (σ fR_isAdjectival 0 0) = 0 then
      (c_r_needDescription d σ v1 s0).bind fun q10 =>
        (c_r_objectsOrNew d (ga_up q10.2 fR_isDescribed 0 0 1) 1 (q10.2 fR_names 0 0)).bind fun q11 =>
          some (0, q11.2)
    else
      r_checkPlain_233 d σ v1 v2 s0
  else
    r_checkPlain_233 d σ v1 v2 s0 :=
  ga_blk_eq am_G (am_run d) mt_r_checkPlain 19 197 [(0, 7, 0), (1, 0, v1), (2, 0, v2)] [(0, s0)] σ
set_option maxRecDepth 100000 in
theorem e_r_checkPlain_233 (d : Nat) (σ : ga_S) (v1 v2 v4 : Int) : r_checkPlain_233 d σ v1 v2 v4 = (c_r_objectsOrNew d σ 0 (σ fR_names 0 0)).bind fun q12 =>
    if (q12.2 fR_isAdjectival 0 0) = 0 then
      (c_r_note d q12.2 4 v1).bind fun q14 =>
        some (0, q14.2)
    else
      if 0 < v4 then
        (c_r_note d q12.2 7 v1).bind fun q13 =>
          some (0, q13.2)
      else
        r_checkPlain_272 d q12.2 v1 v2 0 :=
  ga_blk_eq am_G (am_run d) mt_r_checkPlain 15 233 [(0, 7, 0), (1, 0, v1), (2, 0, v2), (4, 0, v4)] [] σ
set_option maxRecDepth 100000 in
theorem e_r_checkPlain_272 (d : Nat) (σ : ga_S) (v1 v2 v5 : Int) : r_checkPlain_272 d σ v1 v2 v5 = if v5 < (σ fR_names 0 0) then
    (c_r_objectAt d σ v5).bind fun q15 =>
      if q15.1 = (-1) then
        r_checkPlain_321 d q15.2 v1 v2 v5
      else
        ga_ck q15.1 24 ((c_r_adjective d q15.2 v1 v2 (q15.2 fW_kindOf 0 q15.1) (q15.2 fR_not 0 0) 0).bind fun q16 =>
            (c_r_needDescription d q16.2 v1 q16.1).bind fun q17 =>
              r_checkPlain_321 d q17.2 v1 v2 v5)
  else
    some (0, σ) :=
  ga_blk_eq am_G (am_run d) mt_r_checkPlain 26 272 [(0, 7, 0), (1, 0, v1), (2, 0, v2), (5, 0, v5)] [] σ
set_option maxRecDepth 100000 in
theorem e_r_checkPlain_321 (d : Nat) (σ : ga_S) (v1 v2 v5 : Int) : r_checkPlain_321 d σ v1 v2 v5 = r_checkPlain_272 d σ v1 v2 (w32 (v5 + 1)) :=
  ga_blk_eq am_G (am_run d) mt_r_checkPlain 2 321 [(0, 7, 0), (1, 0, v1), (2, 0, v2), (5, 0, v5)] [] σ
set_option maxRecDepth 100000 in
theorem e_r_checkValues (d : Nat) (σ : ga_S) : c_r_checkValues (d + 1) σ = (c_r_typeNamed d (ga_up σ fR_isTyped 0 0 1) (σ fR_nameFrom 0 0) (σ fR_nameTo 0 0)).bind fun q1 =>
    if q1.1 < 2 then
      (c_r_note d (ga_up q1.2 fR_kind0 0 0 q1.1) 4 (q1.2 fR_nameFrom 0 0)).bind fun q2 =>
        r_checkValues_49 d (ga_up q2.2 fR_kind0 0 0 (-1))
    else
      r_checkValues_49 d (ga_up q1.2 fR_kind0 0 0 q1.1) :=
  ga_blk_eq am_G (am_run d) mt_r_checkValues 29 0 [(0, 7, 0)] [] σ
set_option maxRecDepth 100000 in
theorem e_r_checkValues_49 (d : Nat) (σ : ga_S) : r_checkValues_49 d σ = if 1 < (σ fR_names 0 0) then
    (c_r_note d σ 4 (σ fR_nameFrom 0 1)).bind fun q3 =>
      r_checkValues_68 d q3.2
  else
    r_checkValues_68 d σ :=
  ga_blk_eq am_G (am_run d) mt_r_checkValues 11 49 [(0, 7, 0)] [] σ
set_option maxRecDepth 100000 in
theorem e_r_checkValues_68 (d : Nat) (σ : ga_S) : r_checkValues_68 d σ = r_checkValues_70 d σ 0 :=
  ga_blk_eq am_G (am_run d) mt_r_checkValues 2 68 [(0, 7, 0)] [] σ
set_option maxRecDepth 100000 in
theorem e_r_checkValues_70 (d : Nat) (σ : ga_S) (v1 : Int) : r_checkValues_70 d σ v1 = if v1 < (σ fR_runs 0 0) then
    ga_ck v1 5000 (ga_ck v1 5000 (if (σ fR_kind0 0 0) = (-1) then
          r_checkValues_117 d σ v1 0 (σ fR_runTo 0 v1) (σ fR_runFrom 0 v1)
        else
          ga_ck (σ fR_kind0 0 0) 8 (r_checkValues_117 d σ v1 (w32 ((σ fW_typeValues 0 (σ fR_kind0 0 0)) + v1)) (σ fR_runTo 0 v1) (σ fR_runFrom 0 v1))))
  else
    some (0, σ) :=
  ga_blk_eq am_G (am_run d) mt_r_checkValues 25 70 [(0, 7, 0), (1, 0, v1)] [] σ
set_option maxRecDepth 100000 in
theorem e_r_checkValues_117 (d : Nat) (σ : ga_S) (v1 s0 s1 s2 : Int) : r_checkValues_117 d σ v1 s0 s1 s2 = (c_r_isNew d σ s2 s1 s0 8).bind fun q4 =>
    r_checkValues_70 d q4.2 (w32 (v1 + 1)) :=
  ga_blk_eq am_G (am_run d) mt_r_checkValues 4 117 [(0, 7, 0), (1, 0, v1)] [(0, s0), (0, s1), (0, s2), (7, 0)] σ
set_option maxRecDepth 100000 in
theorem e_r_checkHas (d : Nat) (σ : ga_S) : c_r_checkHas (d + 1) σ = (c_r_need d σ (σ fR_nameFrom 0 0) (σ fR_nameTo 0 0) 0).bind fun q1 =>
    (c_r_typeNamed d (ga_up q1.2 fR_kind0 0 0 q1.1) (q1.2 fR_runFrom 0 0) (q1.2 fR_runTo 0 0)).bind fun q2 =>
      if q2.1 = (-1) then
        (c_r_note d (ga_up q2.2 fR_object0 0 0 q2.1) 4 (q2.2 fR_runFrom 0 0)).bind fun q3 =>
          r_checkHas_60 d q3.2
      else
        r_checkHas_60 d (ga_up q2.2 fR_object0 0 0 q2.1) :=
  ga_blk_eq am_G (am_run d) mt_r_checkHas 36 0 [(0, 7, 0)] [] σ
set_option maxRecDepth 100000 in
theorem e_r_checkHas_60 (d : Nat) (σ : ga_S) : r_checkHas_60 d σ = (c_d_spellT d σ 0 (σ fR_runFrom 0 1) (σ fR_runTo 0 1)).bind fun q4 =>
    (c_d_sort d q4.2).bind fun q5 =>
      if q5.1 = (-1) then
        (c_r_isNew d q5.2 (q5.2 fR_runFrom 0 1) (q5.2 fR_runTo 0 1) (q5.2 fW_properties 0 0) 12).bind fun q7 =>
          some (0, q7.2)
      else
        if q5.1 = 5 then
          some (0, q5.2)
        else
          (c_r_note d q5.2 4 (q5.2 fR_runFrom 0 1)).bind fun q6 =>
            some (0, q6.2) :=
  ga_blk_eq am_G (am_run d) mt_r_checkHas 36 60 [(0, 7, 0)] [] σ
set_option maxRecDepth 100000 in
theorem e_r_listed (d : Nat) (σ : ga_S) (a1 a2 a3 a4 : Int) : c_r_listed (d + 1) σ a1 a2 a3 a4 = r_listed_9 d σ a2 a3 a4 a1 0 1 :=
  ga_blk_eq am_G (am_run d) mt_r_listed 6 0 [(0, 7, 0), (1, 0, a1), (2, 0, a2), (3, 0, a3), (4, 0, a4)] [] σ
set_option maxRecDepth 100000 in
theorem e_r_listed_9 (d : Nat) (σ : ga_S) (v2 v3 v4 v5 v6 v7 : Int) : r_listed_9 d σ v2 v3 v4 v5 v6 v7 = if v7 = 0 then
    some (v6, σ)
  else
    if v5 < v2 then
      ga_ck v5 5002 (ga_nn (σ fT_kinds 0 v5) ((c_k_isArticle d σ (σ fT_kinds 0 v5)).bind fun q1 =>
            if q1.1 = 0 then
              r_listed_42 d q1.2 v2 v3 v4 v6 v7 v5
            else
              r_listed_43 d q1.2 v2 v3 v4 v6 v7 1 v5))
    else
      r_listed_42 d σ v2 v3 v4 v6 v7 v5 :=
  ga_blk_eq am_G (am_run d) mt_r_listed 15 9 [(0, 7, 0), (2, 0, v2), (3, 0, v3), (4, 0, v4), (5, 0, v5), (6, 0, v6), (7, 0, v7)] [] σ
set_option maxRecDepth 100000 in
theorem e_r_listed_42 (d : Nat) (σ : ga_S) (v2 v3 v4 v6 v7 s0 : Int) : r_listed_42 d σ v2 v3 v4 v6 v7 s0 = r_listed_43 d σ v2 v3 v4 v6 v7 0 s0 :=
  ga_blk_eq am_G (am_run d) mt_r_listed 1 42 [(0, 7, 0), (2, 0, v2), (3, 0, v3), (4, 0, v4), (6, 0, v6), (7, 0, v7)] [(0, s0)] σ
set_option maxRecDepth 100000 in
theorem e_r_listed_43 (d : Nat) (σ : ga_S) (v2 v3 v4 v6 v7 s0 s1 : Int) : r_listed_43 d σ v2 v3 v4 v6 v7 s0 s1 = r_listed_50 d σ v2 v3 v4 (w32 (s1 + s0)) v6 v7 (w32 (s1 + s0)) :=
  ga_blk_eq am_G (am_run d) mt_r_listed 4 43 [(0, 7, 0), (2, 0, v2), (3, 0, v3), (4, 0, v4), (6, 0, v6), (7, 0, v7)] [(0, s0), (0, s1)] σ
set_option maxRecDepth 100000 in
theorem e_r_listed_50 (d : Nat) (σ : ga_S) (v2 v3 v4 v5 v6 v7 v8 : Int) : r_listed_50 d σ v2 v3 v4 v5 v6 v7 v8 = if v5 < v2 then
    (c_r_isFree d σ v5).bind fun q2 =>
      if q2.1 = 0 then
        r_listed_71 d q2.2 v2 v3 v4 v5 v6 v7 v8
      else
        r_listed_50 d q2.2 v2 v3 v4 (w32 (v5 + 1)) v6 v7 v8
  else
    r_listed_71 d σ v2 v3 v4 v5 v6 v7 v8 :=
  ga_blk_eq am_G (am_run d) mt_r_listed 9 50 [(0, 7, 0), (2, 0, v2), (3, 0, v3), (4, 0, v4), (5, 0, v5), (6, 0, v6), (7, 0, v7), (8, 0, v8)] [] σ
set_option maxRecDepth 100000 in
theorem e_r_listed_71 (d : Nat) (σ : ga_S) (v2 v3 v4 v5 v6 v7 v8 : Int) : r_listed_71 d σ v2 v3 v4 v5 v6 v7 v8 = if v8 = v5 then
    r_listed_91 d σ v2 v3 v4 v5 v6 v7 (-1)
  else
    (c_r_mean d σ v8 v5 2).bind fun q3 =>
      r_listed_91 d q3.2 v2 v3 v4 v5 v6 v7 q3.1 :=
  ga_blk_eq am_G (am_run d) mt_r_listed 8 71 [(0, 7, 0), (2, 0, v2), (3, 0, v3), (4, 0, v4), (5, 0, v5), (6, 0, v6), (7, 0, v7), (8, 0, v8)] [] σ
set_option maxRecDepth 100000 in
theorem e_r_listed_91 (d : Nat) (σ : ga_S) (v2 v3 v4 v5 v6 v7 s0 : Int) : r_listed_91 d σ v2 v3 v4 v5 v6 v7 s0 = if s0 = (-1) then
    some ((-1), σ)
  else
    (c_w_isKind d σ s0 v3).bind fun q4 =>
      if q4.1 = 0 then
        some ((-1), q4.2)
      else
        ga_ck (w32 (v4 + v6)) 5000 (if v5 = v2 then
            r_listed_208 d (ga_up q4.2 fR_nameFrom 0 (w32 (v4 + v6)) s0) v2 v3 v4 v5 (w32 (v6 + 1)) 0
          else
            (c_r_is d (ga_up q4.2 fR_nameFrom 0 (w32 (v4 + v6)) s0) v5 4).bind fun q5 =>
              if q5.1 = 0 then
                (c_r_is d q5.2 v5 25).bind fun q6 =>
                  if q6.1 = 0 then
                    some ((-1), q6.2)
                  else
                    r_listed_208 d q6.2 v2 v3 v4 (w32 (v5 + 1)) (w32 (v6 + 1)) v7
              else
                if (w32 (v5 + 1)) < v2 then
                  (c_r_is d q5.2 (w32 (v5 + 1)) 25).bind fun q7 =>
                    if q7.1 = 0 then
                      r_listed_181 d q7.2 v2 v3 v4 (w32 (v6 + 1)) v7 v5
                    else
                      r_listed_182 d q7.2 v2 v3 v4 (w32 (v6 + 1)) v7 2 v5
                else
                  r_listed_181 d q5.2 v2 v3 v4 (w32 (v6 + 1)) v7 v5) :=
  ga_blk_eq am_G (am_run d) mt_r_listed 41 91 [(0, 7, 0), (2, 0, v2), (3, 0, v3), (4, 0, v4), (5, 0, v5), (6, 0, v6), (7, 0, v7)] [(0, s0)] σ
set_option maxRecDepth 100000 in
theorem e_r_listed_208 (d : Nat) (σ : ga_S) (v2 v3 v4 v5 v6 v7 : Int) : r_listed_208 d σ v2 v3 v4 v5 v6 v7 = r_listed_9 d σ v2 v3 v4 v5 v6 v7 :=
  ga_blk_eq am_G (am_run d) mt_r_listed 1 208 [(0, 7, 0), (2, 0, v2), (3, 0, v3), (4, 0, v4), (5, 0, v5), (6, 0, v6), (7, 0, v7)] [] σ
set_option maxRecDepth 100000 in
theorem e_r_listed_181 (d : Nat) (σ : ga_S) (v2 v3 v4 v6 v7 s0 : Int) : r_listed_181 d σ v2 v3 v4 v6 v7 s0 = r_listed_182 d σ v2 v3 v4 v6 v7 1 s0 :=
  ga_blk_eq am_G (am_run d) mt_r_listed 1 181 [(0, 7, 0), (2, 0, v2), (3, 0, v3), (4, 0, v4), (6, 0, v6), (7, 0, v7)] [(0, s0)] σ
set_option maxRecDepth 100000 in
theorem e_r_listed_182 (d : Nat) (σ : ga_S) (v2 v3 v4 v6 v7 s0 s1 : Int) : r_listed_182 d σ v2 v3 v4 v6 v7 s0 s1 = r_listed_208 d σ v2 v3 v4 (w32 (s1 + s0)) v6 v7 :=
  ga_blk_eq am_G (am_run d) mt_r_listed 3 182 [(0, 7, 0), (2, 0, v2), (3, 0, v3), (4, 0, v4), (6, 0, v6), (7, 0, v7)] [(0, s0), (0, s1)] σ
set_option maxRecDepth 100000 in
theorem e_r_several (d : Nat) (σ : ga_S) (a1 a2 : Int) : c_r_several (d + 1) σ a1 a2 = r_several_5 d σ a2 0 a1 :=
  ga_blk_eq am_G (am_run d) mt_r_several 4 0 [(0, 7, 0), (1, 0, a1), (2, 0, a2)] [] σ
set_option maxRecDepth 100000 in
theorem e_r_several_5 (d : Nat) (σ : ga_S) (v2 v3 v4 : Int) : r_several_5 d σ v2 v3 v4 = if v4 < v2 then
    (c_r_is d σ v4 25).bind fun q1 =>
      if q1.1 = 0 then
        (c_r_is d q1.2 v4 4).bind fun q2 =>
          if q2.1 = 0 then
            r_several_41 d q2.2 v2 v4 0 v3
          else
            r_several_36 d q2.2 v2 v4 v3
      else
        r_several_36 d q1.2 v2 v4 v3
  else
    some (v3, σ) :=
  ga_blk_eq am_G (am_run d) mt_r_several 15 5 [(0, 7, 0), (2, 0, v2), (3, 0, v3), (4, 0, v4)] [] σ
set_option maxRecDepth 100000 in
theorem e_r_several_36 (d : Nat) (σ : ga_S) (v2 v4 s0 : Int) : r_several_36 d σ v2 v4 s0 = r_several_41 d σ v2 v4 1 s0 :=
  ga_blk_eq am_G (am_run d) mt_r_several 2 36 [(0, 7, 0), (2, 0, v2), (4, 0, v4)] [(0, s0)] σ
set_option maxRecDepth 100000 in
theorem e_r_several_41 (d : Nat) (σ : ga_S) (v2 v4 s0 s1 : Int) : r_several_41 d σ v2 v4 s0 s1 = r_several_5 d σ v2 (w32 (s1 + s0)) (w32 (v4 + 1)) :=
  ga_blk_eq am_G (am_run d) mt_r_several 4 41 [(0, 7, 0), (2, 0, v2), (4, 0, v4)] [(0, s0), (0, s1)] σ
set_option maxRecDepth 100000 in
theorem e_r_checkVerb (d : Nat) (σ : ga_S) : c_r_checkVerb (d + 1) σ = r_checkVerb_17 d (ga_up σ fR_readings 0 0 0) (w32 ((σ fT_count 0 0) - 1)) 1 :=
  ga_blk_eq am_G (am_run d) mt_r_checkVerb 11 0 [(0, 7, 0)] [] σ
set_option maxRecDepth 100000 in
theorem e_r_checkVerb_17 (d : Nat) (σ : ga_S) (v1 v2 : Int) : r_checkVerb_17 d σ v1 v2 = if (w32 (v2 + 1)) < v1 then
    (c_r_several d σ 0 v2).bind fun q1 =>
      if 0 < q1.1 then
        r_checkVerb_38 d q1.2 v1 v2 1
      else
        r_checkVerb_38 d q1.2 v1 v2 0
  else
    if (σ fR_readings 0 0) = 1 then
      some (0, σ)
    else
      if (σ fR_readings 0 0) = 0 then
        r_checkVerb_190 d σ 4
      else
        r_checkVerb_190 d σ 7 :=
  ga_blk_eq am_G (am_run d) mt_r_checkVerb 15 17 [(0, 7, 0), (1, 0, v1), (2, 0, v2)] [] σ
set_option maxRecDepth 100000 in
theorem e_r_checkVerb_190 (d : Nat) (σ : ga_S) (s0 : Int) : r_checkVerb_190 d σ s0 = (c_r_note d σ s0 0).bind fun q2 =>
    some (0, q2.2) :=
  ga_blk_eq am_G (am_run d) mt_r_checkVerb 3 190 [] [(0, s0), (7, 0)] σ
set_option maxRecDepth 100000 in
theorem e_r_checkVerb_38 (d : Nat) (σ : ga_S) (v1 v2 s0 : Int) : r_checkVerb_38 d σ v1 v2 s0 = (c_r_isFree d σ v2).bind fun q3 =>
    if q3.1 = 0 then
      r_checkVerb_70 d q3.2 v1 v2 (-1)
    else
      if s0 = 0 then
        r_checkVerb_63 d q3.2 v1 v2 12 (w32 (v2 + 1)) v2
      else
        r_checkVerb_63 d q3.2 v1 v2 7 (w32 (v2 + 1)) v2 :=
  ga_blk_eq am_G (am_run d) mt_r_checkVerb 14 38 [(0, 7, 0), (1, 0, v1), (2, 0, v2)] [(0, s0)] σ
set_option maxRecDepth 100000 in
theorem e_r_checkVerb_70 (d : Nat) (σ : ga_S) (v1 v2 s0 : Int) : r_checkVerb_70 d σ v1 v2 s0 = if s0 = (-1) then
    r_checkVerb_162 d σ v1 v2
  else
    ga_ck s0 8 (ga_ck (σ fW_verbRelations 0 s0) 6 ((c_r_listed d σ 0 v2 (σ fW_relationA 0 (σ fW_verbRelations 0 s0)) 0).bind fun q4 =>
          if q4.1 = (-1) then
            r_checkVerb_139 d q4.2 v1 v2 (-1)
          else
            ga_ck (σ fW_verbRelations 0 s0) 6 ((c_r_listed d q4.2 (w32 (v2 + 1)) v1 (q4.2 fW_relationB 0 (σ fW_verbRelations 0 s0)) q4.1).bind fun q5 =>
                r_checkVerb_139 d q5.2 v1 v2 q5.1))) :=
  ga_blk_eq am_G (am_run d) mt_r_checkVerb 36 70 [(0, 7, 0), (1, 0, v1), (2, 0, v2)] [(0, s0)] σ
set_option maxRecDepth 100000 in
theorem e_r_checkVerb_63 (d : Nat) (σ : ga_S) (v1 v2 s0 s1 s2 : Int) : r_checkVerb_63 d σ v1 v2 s0 s1 s2 = (c_r_mean d σ s2 s1 s0).bind fun q6 =>
    r_checkVerb_70 d q6.2 v1 v2 q6.1 :=
  ga_blk_eq am_G (am_run d) mt_r_checkVerb 2 63 [(0, 7, 0), (1, 0, v1), (2, 0, v2)] [(0, s0), (0, s1), (0, s2), (7, 0)] σ
set_option maxRecDepth 100000 in
theorem e_r_checkVerb_162 (d : Nat) (σ : ga_S) (v1 v2 : Int) : r_checkVerb_162 d σ v1 v2 = r_checkVerb_17 d σ v1 (w32 (v2 + 1)) :=
  ga_blk_eq am_G (am_run d) mt_r_checkVerb 2 162 [(0, 7, 0), (1, 0, v1), (2, 0, v2)] [] σ
set_option maxRecDepth 100000 in
theorem e_r_checkVerb_139 (d : Nat) (σ : ga_S) (v1 v2 s0 : Int) : r_checkVerb_139 d σ v1 v2 s0 = if s0 = (-1) then
    r_checkVerb_162 d σ v1 v2
  else
    r_checkVerb_162 d (ga_up (ga_up σ fR_readings 0 0 (w32 ((σ fR_readings 0 0) + 1))) fR_verbAt 0 0 v2) v1 v2 :=
  ga_blk_eq am_G (am_run d) mt_r_checkVerb 13 139 [(0, 7, 0), (1, 0, v1), (2, 0, v2)] [(0, s0)] σ
set_option maxRecDepth 100000 in
theorem e_r_checkCommand (d : Nat) (σ : ga_S) : c_r_checkCommand (d + 1) σ = (c_r_need d σ (σ fR_runFrom 0 0) (σ fR_runTo 0 0) 8).bind fun q1 =>
    if (q1.2 fW_commands 0 0) = 20 then
      (c_r_note d (ga_up q1.2 fR_kind0 0 0 q1.1) 9 (q1.2 fR_whatAt 0 0)).bind fun q2 =>
        r_checkCommand_46 d q2.2 q1.1
    else
      r_checkCommand_46 d (ga_up q1.2 fR_kind0 0 0 q1.1) q1.1 :=
  ga_blk_eq am_G (am_run d) mt_r_checkCommand 25 0 [(0, 7, 0)] [] σ
set_option maxRecDepth 100000 in
theorem e_r_checkCommand_46 (d : Nat) (σ : ga_S) (v1 : Int) : r_checkCommand_46 d σ v1 = ga_ck (σ fR_whatAt 0 0) 5002 (ga_ck (σ fR_whatAt 0 0) 5002 (ga_ck (σ fR_whatAt 0 0) 5002 ((c_r_isCommand d σ (w32 ((σ fT_places 0 (σ fR_whatAt 0 0)) + 1)) (w32 ((w32 ((σ fT_places 0 (σ fR_whatAt 0 0)) + (σ fT_lengths 0 (σ fR_whatAt 0 0)))) - 1))).bind fun q3 =>
          if q3.1 = 0 then
            r_checkCommand_197 d q3.2 q3.1
          else
            if v1 = (-1) then
              r_checkCommand_197 d q3.2 q3.1
            else
              ga_ck v1 12 (if (q3.2 fW_actionKinds 0 v1) = (-2) then
                  if (q3.2 fR_isDirection 0 0) = 0 then
                    r_checkCommand_131 d q3.2 (q3.2 fW_actionKinds 0 v1) (-1)
                  else
                    r_checkCommand_131 d q3.2 (q3.2 fW_actionKinds 0 v1) (-2)
                else
                  r_checkCommand_134 d q3.2 (q3.2 fW_actionKinds 0 v1))))) :=
  ga_blk_eq am_G (am_run d) mt_r_checkCommand 46 46 [(0, 7, 0), (1, 0, v1)] [] σ
set_option maxRecDepth 100000 in
theorem e_r_checkCommand_197 (d : Nat) (σ : ga_S) (v2 : Int) : r_checkCommand_197 d σ v2 = if v2 = 0 then
    (c_r_note d σ 8 (σ fR_whatAt 0 0)).bind fun q4 =>
      some (0, q4.2)
  else
    some (0, σ) :=
  ga_blk_eq am_G (am_run d) mt_r_checkCommand 8 197 [(0, 7, 0), (2, 0, v2)] [] σ
set_option maxRecDepth 100000 in
theorem e_r_checkCommand_134 (d : Nat) (σ : ga_S) (v3 : Int) : r_checkCommand_134 d σ v3 = if v3 = (-1) then
    if (σ fR_commandSlot 0 0) = (-1) then
      r_checkCommand_196 d σ 1
    else
      r_checkCommand_196 d σ 0
  else
    if v3 = (-2) then
      r_checkCommand_196 d σ (σ fR_isDirection 0 0)
    else
      if (σ fR_commandKind 0 0) = (-1) then
        r_checkCommand_195 d σ
      else
        (c_w_isBelow d σ (σ fR_commandKind 0 0) v3).bind fun q5 =>
          if q5.1 = 0 then
            r_checkCommand_195 d q5.2
          else
            r_checkCommand_196 d q5.2 1 :=
  ga_blk_eq am_G (am_run d) mt_r_checkCommand 19 134 [(0, 7, 0), (3, 0, v3)] [] σ
set_option maxRecDepth 100000 in
theorem e_r_checkCommand_131 (d : Nat) (σ : ga_S) (v3 s0 : Int) : r_checkCommand_131 d σ v3 s0 = r_checkCommand_134 d (ga_up σ fR_commandKind 0 0 s0) v3 :=
  ga_blk_eq am_G (am_run d) mt_r_checkCommand 1 131 [(0, 7, 0), (3, 0, v3)] [(0, s0), (7, 0)] σ
set_option maxRecDepth 100000 in
theorem e_r_checkCommand_195 (d : Nat) (σ : ga_S) : r_checkCommand_195 d σ = r_checkCommand_196 d σ 0 :=
  ga_blk_eq am_G (am_run d) mt_r_checkCommand 1 195 [(0, 7, 0)] [] σ
set_option maxRecDepth 100000 in
theorem e_r_checkCommand_196 (d : Nat) (σ : ga_S) (s0 : Int) : r_checkCommand_196 d σ s0 = r_checkCommand_197 d σ s0 :=
  ga_blk_eq am_G (am_run d) mt_r_checkCommand 1 196 [(0, 7, 0)] [(0, s0)] σ
set_option maxRecDepth 100000 in
theorem e_r_isCommand (d : Nat) (σ : ga_S) (a1 a2 : Int) : c_r_isCommand (d + 1) σ a1 a2 = r_isCommand_22 d (ga_up (ga_up (ga_up (ga_up σ fR_commandCount 0 0 0) fR_commandSlot 0 0 (-1)) fR_commandKind 0 0 (-1)) fR_isDirection 0 0 0) a2 a1 :=
  ga_blk_eq am_G (am_run d) mt_r_isCommand 14 0 [(0, 7, 0), (1, 0, a1), (2, 0, a2)] [] σ
set_option maxRecDepth 100000 in
theorem e_r_isCommand_22 (d : Nat) (σ : ga_S) (v2 v3 : Int) : r_isCommand_22 d σ v2 v3 = if v3 < v2 then
    ga_ck v3 5000 (if (σ fT_bytes 0 v3) = 32 then
        r_isCommand_22 d σ v2 (w32 (v3 + 1))
      else
        ga_ck v3 5000 (if (σ fT_bytes 0 v3) = 91 then
            r_isCommand_69 d σ v2 v3 v3 1
          else
            r_isCommand_69 d σ v2 v3 v3 0))
  else
    if 0 < (σ fR_commandCount 0 0) then
      some (1, σ)
    else
      some (0, σ) :=
  ga_blk_eq am_G (am_run d) mt_r_isCommand 21 22 [(0, 7, 0), (2, 0, v2), (3, 0, v3)] [] σ
set_option maxRecDepth 100000 in
theorem e_r_isCommand_69 (d : Nat) (σ : ga_S) (v2 v3 v4 s0 : Int) : r_isCommand_69 d σ v2 v3 v4 s0 = r_isCommand_71 d σ v2 v3 v4 s0 :=
  ga_blk_eq am_G (am_run d) mt_r_isCommand 1 69 [(0, 7, 0), (2, 0, v2), (3, 0, v3), (4, 0, v4)] [(0, s0)] σ
set_option maxRecDepth 100000 in
theorem e_r_isCommand_71 (d : Nat) (σ : ga_S) (v2 v3 v4 v5 : Int) : r_isCommand_71 d σ v2 v3 v4 v5 = if v4 < v2 then
    if v5 = 0 then
      (c_t_low d σ 0 v4).bind fun q1 =>
        (c_t_isLetter d q1.2 q1.1).bind fun q2 =>
          if q2.1 = 0 then
            r_isCommand_121 d q2.2 v2 v3 v4 v5
          else
            r_isCommand_115 d q2.2 v2 v3 v4 v5
    else
      ga_ck v4 5000 (if (σ fT_bytes 0 v4) = 93 then
          r_isCommand_121 d σ v2 v3 v4 v5
        else
          r_isCommand_115 d σ v2 v3 v4 v5)
  else
    r_isCommand_121 d σ v2 v3 v4 v5 :=
  ga_blk_eq am_G (am_run d) mt_r_isCommand 13 71 [(0, 7, 0), (2, 0, v2), (3, 0, v3), (4, 0, v4), (5, 0, v5)] [] σ
set_option maxRecDepth 100000 in
theorem e_r_isCommand_121 (d : Nat) (σ : ga_S) (v2 v3 v4 v5 : Int) : r_isCommand_121 d σ v2 v3 v4 v5 = if (σ fR_commandCount 0 0) = 8 then
    some (0, σ)
  else
    if v4 = v3 then
      some (0, σ)
    else
      if v5 = 0 then
        r_isCommand_167 d σ v2 v3 v4 v5
      else
        if v4 = v2 then
          some (0, σ)
        else
          if (σ fR_commandSlot 0 0) = (-1) then
            (c_r_isSlot d σ (w32 (v3 + 1)) v4).bind fun q3 =>
              if q3.1 = 0 then
                some (0, q3.2)
              else
                r_isCommand_167 d q3.2 v2 v3 v4 v5
          else
            some (0, σ) :=
  ga_blk_eq am_G (am_run d) mt_r_isCommand 25 121 [(0, 7, 0), (2, 0, v2), (3, 0, v3), (4, 0, v4), (5, 0, v5)] [] σ
set_option maxRecDepth 100000 in
theorem e_r_isCommand_115 (d : Nat) (σ : ga_S) (v2 v3 v4 v5 : Int) : r_isCommand_115 d σ v2 v3 v4 v5 = r_isCommand_71 d σ v2 v3 (w32 (v4 + 1)) v5 :=
  ga_blk_eq am_G (am_run d) mt_r_isCommand 2 115 [(0, 7, 0), (2, 0, v2), (3, 0, v3), (4, 0, v4), (5, 0, v5)] [] σ
set_option maxRecDepth 100000 in
theorem e_r_isCommand_167 (d : Nat) (σ : ga_S) (v2 v3 v4 v5 : Int) : r_isCommand_167 d σ v2 v3 v4 v5 = if v5 = 0 then
    if 12 < (w32 (v4 - v3)) then
      some (0, σ)
    else
      r_isCommand_183 d σ v2 v3 v4 v5
  else
    r_isCommand_183 d σ v2 v3 v4 v5 :=
  ga_blk_eq am_G (am_run d) mt_r_isCommand 9 167 [(0, 7, 0), (2, 0, v2), (3, 0, v3), (4, 0, v4), (5, 0, v5)] [] σ
set_option maxRecDepth 100000 in
theorem e_r_isCommand_183 (d : Nat) (σ : ga_S) (v2 v3 v4 v5 : Int) : r_isCommand_183 d σ v2 v3 v4 v5 = ga_ck (σ fR_commandCount 0 0) 8 (ga_ck (σ fR_commandCount 0 0) 8 (if v5 = 0 then
        r_isCommand_220 d (ga_up (ga_up σ fR_commandFrom 0 (σ fR_commandCount 0 0) v3) fR_commandTo 0 (σ fR_commandCount 0 0) v4) v2 v4
      else
        r_isCommand_220 d (ga_up (ga_up (ga_up σ fR_commandFrom 0 (σ fR_commandCount 0 0) v3) fR_commandTo 0 (σ fR_commandCount 0 0) v4) fR_commandSlot 0 0 (σ fR_commandCount 0 0)) v2 (w32 (v4 + 1)))) :=
  ga_blk_eq am_G (am_run d) mt_r_isCommand 19 183 [(0, 7, 0), (2, 0, v2), (3, 0, v3), (4, 0, v4), (5, 0, v5)] [] σ
set_option maxRecDepth 100000 in
theorem e_r_isCommand_220 (d : Nat) (σ : ga_S) (v2 v4 : Int) : r_isCommand_220 d σ v2 v4 = if v4 < v2 then
    ga_ck v4 5000 (if (σ fT_bytes 0 v4) = 32 then
        r_isCommand_243 d σ v2 v4
      else
        some (0, σ))
  else
    r_isCommand_243 d σ v2 v4 :=
  ga_blk_eq am_G (am_run d) mt_r_isCommand 12 220 [(0, 7, 0), (2, 0, v2), (4, 0, v4)] [] σ
set_option maxRecDepth 100000 in
theorem e_r_isCommand_243 (d : Nat) (σ : ga_S) (v2 v4 : Int) : r_isCommand_243 d σ v2 v4 = r_isCommand_22 d (ga_up σ fR_commandCount 0 0 (w32 ((σ fR_commandCount 0 0) + 1))) v2 v4 :=
  ga_blk_eq am_G (am_run d) mt_r_isCommand 9 243 [(0, 7, 0), (2, 0, v2), (4, 0, v4)] [] σ
set_option maxRecDepth 100000 in
theorem e_r_isSlot (d : Nat) (σ : ga_S) (a1 a2 : Int) : c_r_isSlot (d + 1) σ a1 a2 = ga_nn (σ fR_inner 0 0) ((c_t_inside d σ (σ fR_inner 0 0) a1 a2).bind fun q1 =>
      ga_nn (q1.2 fR_inner 0 0) (ga_nn (q1.2 fR_inner 0 0) (if (q1.2 fT_wrong (q1.2 fR_inner 0 0) 0) = (-1) then
            if (w32 ((q1.2 fT_count (q1.2 fR_inner 0 0) 0) - 1)) = 0 then
              some (0, q1.2)
            else
              r_isSlot_39 d q1.2 (w32 ((q1.2 fT_count (q1.2 fR_inner 0 0) 0) - 1)) 0
          else
            some (0, q1.2)))) :=
  ga_blk_eq am_G (am_run d) mt_r_isSlot 20 0 [(0, 7, 0), (1, 0, a1), (2, 0, a2)] [] σ
set_option maxRecDepth 100000 in
theorem e_r_isSlot_39 (d : Nat) (σ : ga_S) (v3 v4 : Int) : r_isSlot_39 d σ v3 v4 = if v4 < v3 then
    ga_nn (σ fR_inner 0 0) (ga_nn (σ fR_inner 0 0) (ga_ck v4 5002 (if (σ fT_kinds (σ fR_inner 0 0) v4) = 0 then
            r_isSlot_39 d σ v3 (w32 (v4 + 1))
          else
            some (0, σ))))
  else
    (c_d_spellS d σ 30).bind fun q2 =>
      (c_d_spellT d q2.2 (q2.2 fR_inner 0 0) 0 v3).bind fun q3 =>
        (c_d_of d q3.2 0).bind fun q4 =>
          if (q4.2 fD_size 0 0) = (q2.2 fD_size 0 0) then
            r_isSlot_131 d (ga_up q4.2 fR_commandKind 0 0 q4.1) (q2.2 fD_size 0 0) 1
          else
            r_isSlot_131 d (ga_up q4.2 fR_commandKind 0 0 q4.1) (q2.2 fD_size 0 0) 0 :=
  ga_blk_eq am_G (am_run d) mt_r_isSlot 32 39 [(0, 7, 0), (3, 0, v3), (4, 0, v4)] [] σ
set_option maxRecDepth 100000 in
theorem e_r_isSlot_131 (d : Nat) (σ : ga_S) (v4 s0 : Int) : r_isSlot_131 d σ v4 s0 = ga_01 s0 (r_isSlot_137 d (ga_up σ fR_isDirection 0 0 s0) v4 0) :=
  ga_blk_eq am_G (am_run d) mt_r_isSlot 3 131 [(0, 7, 0), (4, 0, v4)] [(0, s0), (7, 0)] σ
set_option maxRecDepth 100000 in
theorem e_r_isSlot_137 (d : Nat) (σ : ga_S) (v4 v5 : Int) : r_isSlot_137 d σ v4 v5 = if v5 < v4 then
    if (σ fR_isDirection 0 0) = 0 then
      some (1, σ)
    else
      ga_ck v5 1000 ((p_chr d σ 30 v5).bind fun q5 =>
          if (σ fD_spelled 0 v5) = q5.1 then
            r_isSlot_178 d q5.2 v4 v5 1
          else
            r_isSlot_178 d q5.2 v4 v5 0)
  else
    some (1, σ) :=
  ga_blk_eq am_G (am_run d) mt_r_isSlot 18 137 [(0, 7, 0), (4, 0, v4), (5, 0, v5)] [] σ
set_option maxRecDepth 100000 in
theorem e_r_isSlot_178 (d : Nat) (σ : ga_S) (v4 v5 s0 : Int) : r_isSlot_178 d σ v4 v5 s0 = ga_01 s0 (r_isSlot_137 d (ga_up σ fR_isDirection 0 0 s0) v4 (w32 (v5 + 1))) :=
  ga_blk_eq am_G (am_run d) mt_r_isSlot 3 178 [(0, 7, 0), (4, 0, v4), (5, 0, v5)] [(0, s0), (7, 0)] σ
set_option maxRecDepth 100000 in
theorem e_r_otherwise (d : Nat) (σ : ga_S) (a1 : Int) : c_r_otherwise (d + 1) σ a1 = (c_r_note d σ 5 a1).bind fun q1 =>
    some (0, q1.2) :=
  ga_blk_eq am_G (am_run d) mt_r_otherwise 6 0 [(0, 7, 0), (1, 0, a1)] [] σ
set_option maxRecDepth 100000 in
theorem e_r_hold (d : Nat) (σ : ga_S) (a1 a2 a3 : Int) : c_r_hold (d + 1) σ a1 a2 a3 = ga_ck a1 40 (ga_ck a2 24 (ga_nn a1 (ga_ck (σ fW_contraries 0 a2) 24 (if (σ fW_told a1 (σ fW_contraries 0 a2)) = 0 then
            ga_ck a1 40 (ga_nn a1 (ga_ck a2 24 (some (1, (ga_up σ fW_told a1 a2 1)))))
          else
            (c_r_otherwise d σ a3).bind fun q1 =>
              ga_01 q1.1 (some (q1.1, q1.2)))))) :=
  ga_blk_eq am_G (am_run d) mt_r_hold 22 0 [(0, 7, 0), (1, 0, a1), (2, 0, a2), (3, 0, a3)] [] σ
set_option maxRecDepth 100000 in
theorem e_r_set (d : Nat) (σ : ga_S) (a1 a2 a3 a4 a5 : Int) : c_r_set (d + 1) σ a1 a2 a3 a4 a5 = ga_ck a1 40 (ga_nn a1 (ga_ck a2 12 (if (σ fW_has a1 a2) = 0 then
          ga_ck a1 40 (ga_nn a1 (ga_ck a2 12 (ga_ck a1 40 (ga_nn a1 (ga_ck a2 12 (ga_ck a1 40 (ga_nn a1 (ga_ck a2 12 (some (1, (ga_up (ga_up (ga_up σ fW_has a1 a2 1) fW_numbers a1 a2 a3) fW_lengths a1 a2 a4)))))))))))
        else
          ga_ck a1 40 (ga_nn a1 (ga_ck a2 12 (if (σ fW_numbers a1 a2) = a3 then
                  r_set_34 d σ a1 a2 a3 a4 a5 1
                else
                  r_set_34 d σ a1 a2 a3 a4 a5 0)))))) :=
  ga_blk_eq am_G (am_run d) mt_r_set 34 0 [(0, 7, 0), (1, 0, a1), (2, 0, a2), (3, 0, a3), (4, 0, a4), (5, 0, a5)] [] σ
set_option maxRecDepth 100000 in
theorem e_r_set_34 (d : Nat) (σ : ga_S) (v1 v2 v3 v4 v5 s0 : Int) : r_set_34 d σ v1 v2 v3 v4 v5 s0 = ga_ck v2 12 (if (σ fW_propertyTypes 0 v2) = 1 then
      ga_ck v1 40 (ga_nn v1 (ga_ck v2 12 (if (σ fW_lengths v1 v2) = v4 then
              r_set_70 d σ v1 v2 v3 v4 v5 1
            else
              r_set_70 d σ v1 v2 v3 v4 v5 0)))
    else
      r_set_137 d σ v5 s0) :=
  ga_blk_eq am_G (am_run d) mt_r_set 19 34 [(0, 7, 0), (1, 0, v1), (2, 0, v2), (3, 0, v3), (4, 0, v4), (5, 0, v5)] [(0, s0)] σ
set_option maxRecDepth 100000 in
theorem e_r_set_137 (d : Nat) (σ : ga_S) (v5 v6 : Int) : r_set_137 d σ v5 v6 = if v6 = 0 then
    (c_r_otherwise d σ v5).bind fun q1 =>
      if q1.1 = 0 then
        some (0, q1.2)
      else
        r_set_151 d q1.2
  else
    r_set_151 d σ :=
  ga_blk_eq am_G (am_run d) mt_r_set 8 137 [(0, 7, 0), (5, 0, v5), (6, 0, v6)] [] σ
set_option maxRecDepth 100000 in
theorem e_r_set_70 (d : Nat) (σ : ga_S) (v1 v2 v3 v4 v5 s0 : Int) : r_set_70 d σ v1 v2 v3 v4 v5 s0 = r_set_75 d σ v1 v2 v3 v4 v5 s0 0 :=
  ga_blk_eq am_G (am_run d) mt_r_set 3 70 [(0, 7, 0), (1, 0, v1), (2, 0, v2), (3, 0, v3), (4, 0, v4), (5, 0, v5)] [(0, s0)] σ
set_option maxRecDepth 100000 in
theorem e_r_set_151 (d : Nat) (σ : ga_S) : r_set_151 d σ = some (1, σ) :=
  ga_blk_eq am_G (am_run d) mt_r_set 3 151 [] [] σ
set_option maxRecDepth 100000 in
theorem e_r_set_75 (d : Nat) (σ : ga_S) (v1 v2 v3 v4 v5 v6 v7 : Int) : r_set_75 d σ v1 v2 v3 v4 v5 v6 v7 = if v7 < v4 then
    if v6 = 0 then
      r_set_137 d σ v5 v6
    else
      ga_ck v1 40 (ga_nn v1 (ga_ck v2 12 (ga_ck (w32 ((σ fW_numbers v1 v2) + v7)) 5000 (ga_ck (w32 (v3 + v7)) 5000 (if (σ fT_bytes 0 (w32 ((σ fW_numbers v1 v2) + v7))) = (σ fT_bytes 0 (w32 (v3 + v7))) then
                  r_set_129 d σ v1 v2 v3 v4 v5 v7 1
                else
                  r_set_129 d σ v1 v2 v3 v4 v5 v7 0)))))
  else
    r_set_137 d σ v5 v6 :=
  ga_blk_eq am_G (am_run d) mt_r_set 28 75 [(0, 7, 0), (1, 0, v1), (2, 0, v2), (3, 0, v3), (4, 0, v4), (5, 0, v5), (6, 0, v6), (7, 0, v7)] [] σ
set_option maxRecDepth 100000 in
theorem e_r_set_129 (d : Nat) (σ : ga_S) (v1 v2 v3 v4 v5 v7 s0 : Int) : r_set_129 d σ v1 v2 v3 v4 v5 v7 s0 = r_set_75 d σ v1 v2 v3 v4 v5 s0 (w32 (v7 + 1)) :=
  ga_blk_eq am_G (am_run d) mt_r_set 3 129 [(0, 7, 0), (1, 0, v1), (2, 0, v2), (3, 0, v3), (4, 0, v4), (5, 0, v5), (7, 0, v7)] [(0, s0)] σ
set_option maxRecDepth 100000 in
theorem e_r_tell (d : Nat) (σ : ga_S) (a1 a2 a3 a4 : Int) : c_r_tell (d + 1) σ a1 a2 a3 a4 = (c_d_spellT d σ 0 a1 a2).bind fun q1 =>
    (c_d_tell d q1.2 a3 a4).bind fun q2 =>
      some (0, q2.2) :=
  ga_blk_eq am_G (am_run d) mt_r_tell 13 0 [(0, 7, 0), (1, 0, a1), (2, 0, a2), (3, 0, a3), (4, 0, a4)] [] σ
set_option maxRecDepth 100000 in
theorem e_r_pluralWithS (d : Nat) (σ : ga_S) (a1 a2 a3 : Int) : c_r_pluralWithS (d + 1) σ a1 a2 a3 = (c_d_spellT d σ 0 a1 a2).bind fun q1 =>
    (c_d_withS d q1.2).bind fun q2 =>
      (c_d_find d q2.2).bind fun q3 =>
        if q3.1 = (-1) then
          (c_d_tell d q3.2 11 a3).bind fun q4 =>
            some (0, q4.2)
        else
          some (0, q3.2) :=
  ga_blk_eq am_G (am_run d) mt_r_pluralWithS 21 0 [(0, 7, 0), (1, 0, a1), (2, 0, a2), (3, 0, a3)] [] σ
set_option maxRecDepth 100000 in
theorem e_r_objectFor (d : Nat) (σ : ga_S) (a1 a2 : Int) : c_r_objectFor (d + 1) σ a1 a2 = (c_r_objectAt d σ a1).bind fun q1 =>
    if q1.1 = (-1) then
      (c_w_newObject d q1.2 a2).bind fun q2 =>
        ga_ck a1 5000 (ga_ck a1 5000 ((c_r_tell d q2.2 (q2.2 fR_nameFrom 0 a1) (q2.2 fR_nameTo 0 a1) 2 q2.1).bind fun q3 =>
              some (q2.1, q3.2)))
    else
      some (q1.1, q1.2) :=
  ga_blk_eq am_G (am_run d) mt_r_objectFor 26 0 [(0, 7, 0), (1, 0, a1), (2, 0, a2)] [] σ
set_option maxRecDepth 100000 in
theorem e_r_ofKind (d : Nat) (σ : ga_S) (a1 a2 a3 : Int) : c_r_ofKind (d + 1) σ a1 a2 a3 = (c_w_isKind d σ a1 a2).bind fun q1 =>
    if q1.1 = 0 then
      ga_ck a1 24 ((c_w_isBelow d q1.2 a2 (q1.2 fW_kindOf 0 a1)).bind fun q2 =>
          if q2.1 = 0 then
            (c_r_otherwise d q2.2 a3).bind fun q3 =>
              ga_01 q3.1 (some (q3.1, q3.2))
          else
            ga_ck a1 24 (some (1, (ga_up q2.2 fW_kindOf 0 a1 a2))))
    else
      some (1, q1.2) :=
  ga_blk_eq am_G (am_run d) mt_r_ofKind 24 0 [(0, 7, 0), (1, 0, a1), (2, 0, a2), (3, 0, a3)] [] σ
set_option maxRecDepth 100000 in
theorem e_r_putThere (d : Nat) (σ : ga_S) (a1 a2 : Int) : c_r_putThere (d + 1) σ a1 a2 = (c_w_isKind d σ a1 0).bind fun q1 =>
    if q1.1 = 0 then
      r_putThere_56 d q1.2 a2
    else
      ga_ck a1 24 (if (q1.2 fW_placed 0 a1) = 0 then
          r_putThere_62 d q1.2 a1 a2
        else
          ga_ck a1 24 (if (q1.2 fW_placed 0 a1) = (q1.2 fR_placeSort 0 0) then
              ga_ck a1 24 (if (q1.2 fW_placeAt 0 a1) = (q1.2 fR_object0 0 0) then
                  r_putThere_62 d q1.2 a1 a2
                else
                  r_putThere_56 d q1.2 a2)
            else
              r_putThere_56 d q1.2 a2)) :=
  ga_blk_eq am_G (am_run d) mt_r_putThere 28 0 [(0, 7, 0), (1, 0, a1), (2, 0, a2)] [] σ
set_option maxRecDepth 100000 in
theorem e_r_putThere_56 (d : Nat) (σ : ga_S) (v2 : Int) : r_putThere_56 d σ v2 = (c_r_otherwise d σ v2).bind fun q2 =>
    ga_01 q2.1 (some (q2.1, q2.2)) :=
  ga_blk_eq am_G (am_run d) mt_r_putThere 4 56 [(0, 7, 0), (2, 0, v2)] [] σ
set_option maxRecDepth 100000 in
theorem e_r_putThere_62 (d : Nat) (σ : ga_S) (v1 v2 : Int) : r_putThere_62 d σ v1 v2 = (c_w_isWithin d σ (σ fR_object0 0 0) v1).bind fun q3 =>
    if q3.1 = 0 then
      (c_w_put d q3.2 v1 (q3.2 fR_placeSort 0 0) (q3.2 fR_object0 0 0)).bind fun q4 =>
        some (1, q4.2)
    else
      (c_r_note d q3.2 6 v2).bind fun q5 =>
        some (0, q5.2) :=
  ga_blk_eq am_G (am_run d) mt_r_putThere 17 62 [(0, 7, 0), (1, 0, v1), (2, 0, v2)] [] σ
set_option maxRecDepth 100000 in
theorem e_r_act (d : Nat) (σ : ga_S) : c_r_act (d + 1) σ = if (σ fR_sort 0 0) = 0 then
    (c_r_set d σ (σ fR_latest 0 0) 0 (w32 ((σ fT_places 0 0) + 1)) (w32 ((σ fT_lengths 0 0) - 2)) 0).bind fun q28 =>
      ga_01 q28.1 (some (q28.1, q28.2))
  else
    if (σ fR_sort 0 0) = 1 then
      (c_r_keepCommand d σ).bind fun q27 =>
        some (1, q27.2)
    else
      if (σ fR_sort 0 0) = 2 then
        ga_ck (σ fW_adjectives 0 0) 24 (ga_ck (σ fW_adjectives 0 0) 24 ((c_r_swap_defined d (ga_up (ga_up σ fW_adjectiveKinds 0 (σ fW_adjectives 0 0) (σ fR_kind0 0 0)) fW_contraries 0 (σ fW_adjectives 0 0) (-1)) (σ fW_adjectives 0 0)).bind fun q25 =>
              (c_r_tell d (ga_up q25.2 fW_adjectives 0 0 (w32 ((q25.2 fW_adjectives 0 0) + 1))) (q25.2 fR_runFrom 0 1) (q25.2 fR_runTo 0 1) 3 (q25.2 fW_adjectives 0 0)).bind fun q26 =>
                some (1, q26.2)))
      else
        if (σ fR_sort 0 0) = 3 then
          (c_r_swap_rule d (ga_up σ fW_rules 0 0 (w32 ((σ fW_rules 0 0) + 1))) (σ fW_rules 0 0)).bind fun q24 =>
            some (1, q24.2)
        else
          if (σ fR_sort 0 0) = 4 then
            (c_r_swap_rule d (ga_up σ fW_rules 0 0 (w32 ((σ fW_rules 0 0) + 1))) (σ fW_rules 0 0)).bind fun q23 =>
              some (1, q23.2)
          else
            if (σ fR_sort 0 0) = 5 then
              (c_r_swap_rule d (ga_up σ fW_rules 0 0 (w32 ((σ fW_rules 0 0) + 1))) (σ fW_rules 0 0)).bind fun q22 =>
                some (1, q22.2)
            else
              if (σ fR_sort 0 0) = 6 then
                (c_r_swap_rule d (ga_up σ fW_rules 0 0 (w32 ((σ fW_rules 0 0) + 1))) (σ fW_rules 0 0)).bind fun q21 =>
                  some (1, q21.2)
              else
                if (σ fR_sort 0 0) = 7 then
                  (c_r_tell d σ (σ fR_runFrom 0 0) (σ fR_runTo 0 0) 7 (σ fW_verbs 0 0)).bind fun q18 =>
                    (c_d_withS d q18.2).bind fun q19 =>
                      (c_d_tell d q19.2 12 (q19.2 fW_verbs 0 0)).bind fun q20 =>
                        ga_ck (q20.2 fW_verbs 0 0) 8 (some (1, (ga_up (ga_up q20.2 fW_verbs 0 0 (w32 ((q20.2 fW_verbs 0 0) + 1))) fW_verbRelations 0 (q20.2 fW_verbs 0 0) (q20.2 fR_kind0 0 0))))
                else
                  if (σ fR_sort 0 0) = 8 then
                    if (σ fR_kind0 0 0) = (-1) then
                      r_act_350 d σ (w32 (100 + (σ fR_object0 0 0)))
                    else
                      r_act_350 d σ (σ fR_kind0 0 0)
                  else
                    if (σ fR_sort 0 0) = 9 then
                      ga_nn (0 + 686) (ga_nn (0 + 686) ((c_r_set d σ (σ fR_object0 0 0) (σ fR_kind0 0 0) (σ fS_value (0 + 686) 0) (σ fS_length (0 + 686) 0) (σ fR_nameFrom 0 0)).bind fun q17 =>
                            ga_01 q17.1 (some (q17.1, q17.2))))
                    else
                      if (σ fR_sort 0 0) = 10 then
                        r_act_417 d σ 0
                      else
                        if (σ fR_sort 0 0) = 11 then
                          r_act_568 d σ 0
                        else
                          if (σ fR_sort 0 0) = 12 then
                            (c_r_places d σ).bind fun q16 =>
                              ga_01 q16.1 (some (q16.1, q16.2))
                          else
                            if (σ fR_sort 0 0) = 13 then
                              (c_r_places d σ).bind fun q15 =>
                                ga_01 q15.1 (some (q15.1, q15.2))
                            else
                              if (σ fR_sort 0 0) = 14 then
                                (c_r_way d σ).bind fun q14 =>
                                  ga_01 q14.1 (some (q14.1, q14.2))
                              else
                                if (σ fR_sort 0 0) = 15 then
                                  if (σ fR_isTyped 0 0) = 0 then
                                    if (σ fR_isDescribed 0 0) = 0 then
                                      (c_r_adjectives d σ).bind fun q11 =>
                                        ga_01 q11.1 (some (q11.1, q11.2))
                                    else
                                      (c_r_places d σ).bind fun q12 =>
                                        ga_01 q12.1 (some (q12.1, q12.2))
                                  else
                                    (c_r_values d σ).bind fun q13 =>
                                      ga_01 q13.1 (some (q13.1, q13.2))
                                else
                                  if (σ fR_sort 0 0) = 16 then
                                    if (σ fR_isTyped 0 0) = 0 then
                                      if (σ fR_isDescribed 0 0) = 0 then
                                        (c_r_adjectives d σ).bind fun q8 =>
                                          ga_01 q8.1 (some (q8.1, q8.2))
                                      else
                                        (c_r_places d σ).bind fun q9 =>
                                          ga_01 q9.1 (some (q9.1, q9.2))
                                    else
                                      (c_r_values d σ).bind fun q10 =>
                                        ga_01 q10.1 (some (q10.1, q10.2))
                                  else
                                    if (σ fR_sort 0 0) = 17 then
                                      (c_r_owner d σ).bind fun q7 =>
                                        ga_01 q7.1 (some (q7.1, q7.2))
                                    else
                                      if (σ fR_sort 0 0) = 18 then
                                        (c_w_newAdjectives d σ (σ fR_kind0 0 0)).bind fun q4 =>
                                          (c_r_tell d q4.2 (q4.2 fR_runFrom 0 0) (q4.2 fR_runTo 0 0) 3 q4.1).bind fun q5 =>
                                            (c_r_tell d q5.2 (q5.2 fR_runFrom 0 1) (q5.2 fR_runTo 0 1) 3 (w32 (q4.1 + 1))).bind fun q6 =>
                                              some (1, q6.2)
                                      else
                                        if (σ fR_sort 0 0) = 19 then
                                          (c_w_newRelation d σ (σ fR_kind0 0 0) (σ fR_object0 0 0) (σ fR_firstOne 0 0) (σ fR_secondOne 0 0)).bind fun q2 =>
                                            (c_r_tell d q2.2 (σ fR_nameFrom 0 0) (σ fR_nameTo 0 0) 6 q2.1).bind fun q3 =>
                                              some (1, q3.2)
                                        else
                                          (c_r_relates d σ).bind fun q1 =>
                                            ga_01 q1.1 (some (q1.1, q1.2)) :=
  ga_blk_eq am_G (am_run d) mt_r_act 51 0 [(0, 7, 0)] [] σ
set_option maxRecDepth 100000 in
theorem e_r_act_568 (d : Nat) (σ : ga_S) (v3 : Int) : r_act_568 d σ v3 = if v3 < (σ fR_names 0 0) then
    ga_ck v3 5000 (ga_ck v3 5000 ((c_w_newAction d σ (σ fR_kind0 0 0)).bind fun q29 =>
          (c_r_tell d q29.2 (σ fR_nameFrom 0 v3) (σ fR_nameTo 0 v3) 8 q29.1).bind fun q30 =>
            r_act_568 d q30.2 (w32 (v3 + 1))))
  else
    some (1, σ) :=
  ga_blk_eq am_G (am_run d) mt_r_act 22 568 [(0, 7, 0), (3, 0, v3)] [] σ
set_option maxRecDepth 100000 in
theorem e_r_act_417 (d : Nat) (σ : ga_S) (v3 : Int) : r_act_417 d σ v3 = if v3 < (σ fR_names 0 0) then
    if (σ fR_isValue 0 0) = 0 then
      (c_w_newKind d σ (σ fR_kind0 0 0)).bind fun q31 =>
        r_act_453 d q31.2 v3 q31.1
    else
      (c_w_newType d σ).bind fun q32 =>
        r_act_453 d q32.2 v3 q32.1
  else
    r_act_493 d σ 0 :=
  ga_blk_eq am_G (am_run d) mt_r_act 12 417 [(0, 7, 0), (3, 0, v3)] [] σ
set_option maxRecDepth 100000 in
theorem e_r_act_350 (d : Nat) (σ : ga_S) (s0 : Int) : r_act_350 d σ s0 = (c_d_forget d σ 11 s0).bind fun q33 =>
    (c_r_tell d q33.2 (q33.2 fR_runFrom 0 1) (q33.2 fR_runTo 0 1) 11 s0).bind fun q34 =>
      some (1, q34.2) :=
  ga_blk_eq am_G (am_run d) mt_r_act 20 350 [(0, 7, 0)] [(0, s0)] σ
set_option maxRecDepth 100000 in
theorem e_r_act_493 (d : Nat) (σ : ga_S) (v3 : Int) : r_act_493 d σ v3 = if v3 < (σ fR_names 0 0) then
    ga_ck v3 5000 (ga_ck v3 5000 (if (σ fR_isValue 0 0) = 0 then
          r_act_555 d σ v3 (w32 ((w32 ((σ fW_kinds 0 0) - (σ fR_names 0 0))) + v3)) (σ fR_nameTo 0 v3) (σ fR_nameFrom 0 v3)
        else
          r_act_555 d σ v3 (w32 ((w32 ((w32 (100 + (σ fW_types 0 0))) - (σ fR_names 0 0))) + v3)) (σ fR_nameTo 0 v3) (σ fR_nameFrom 0 v3)))
  else
    some (1, σ) :=
  ga_blk_eq am_G (am_run d) mt_r_act 27 493 [(0, 7, 0), (3, 0, v3)] [] σ
set_option maxRecDepth 100000 in
theorem e_r_act_453 (d : Nat) (σ : ga_S) (v3 s0 : Int) : r_act_453 d σ v3 s0 = ga_ck v3 5000 (ga_ck v3 5000 (if (σ fR_isValue 0 0) = 0 then
        r_act_480 d σ v3 s0 0 (σ fR_nameTo 0 v3) (σ fR_nameFrom 0 v3)
      else
        r_act_480 d σ v3 s0 1 (σ fR_nameTo 0 v3) (σ fR_nameFrom 0 v3))) :=
  ga_blk_eq am_G (am_run d) mt_r_act 15 453 [(0, 7, 0), (3, 0, v3)] [(0, s0)] σ
set_option maxRecDepth 100000 in
theorem e_r_act_555 (d : Nat) (σ : ga_S) (v3 s0 s1 s2 : Int) : r_act_555 d σ v3 s0 s1 s2 = (c_r_pluralWithS d σ s2 s1 s0).bind fun q35 =>
    r_act_493 d q35.2 (w32 (v3 + 1)) :=
  ga_blk_eq am_G (am_run d) mt_r_act 3 555 [(0, 7, 0), (3, 0, v3)] [(0, s0), (0, s1), (0, s2), (7, 0)] σ
set_option maxRecDepth 100000 in
theorem e_r_act_480 (d : Nat) (σ : ga_S) (v3 v4 s0 s1 s2 : Int) : r_act_480 d σ v3 v4 s0 s1 s2 = (c_r_tell d σ s2 s1 s0 v4).bind fun q36 =>
    r_act_417 d q36.2 (w32 (v3 + 1)) :=
  ga_blk_eq am_G (am_run d) mt_r_act 4 480 [(0, 7, 0), (3, 0, v3), (4, 0, v4)] [(0, s0), (0, s1), (0, s2), (7, 0)] σ
set_option maxRecDepth 100000 in
theorem e_r_places (d : Nat) (σ : ga_S) : c_r_places (d + 1) σ = r_places_2 d σ 0 :=
  ga_blk_eq am_G (am_run d) mt_r_places 2 0 [(0, 7, 0)] [] σ
set_option maxRecDepth 100000 in
theorem e_r_places_2 (d : Nat) (σ : ga_S) (v1 : Int) : r_places_2 d σ v1 = if v1 < (σ fR_names 0 0) then
    if (σ fR_isDescribed 0 0) = 0 then
      r_places_27 d σ v1 0 v1
    else
      r_places_27 d σ v1 (σ fR_describedKind 0 0) v1
  else
    (c_r_objectAt d σ 0).bind fun q1 =>
      some (1, (ga_up q1.2 fR_latest 0 0 q1.1)) :=
  ga_blk_eq am_G (am_run d) mt_r_places 12 2 [(0, 7, 0), (1, 0, v1)] [] σ
set_option maxRecDepth 100000 in
theorem e_r_places_27 (d : Nat) (σ : ga_S) (v1 s0 s1 : Int) : r_places_27 d σ v1 s0 s1 = (c_r_objectFor d σ s1 s0).bind fun q2 =>
    if (q2.2 fR_isDescribed 0 0) = 0 then
      r_places_137 d q2.2 v1 q2.1
    else
      ga_ck v1 5000 ((c_r_ofKind d q2.2 q2.1 (q2.2 fR_describedKind 0 0) (q2.2 fR_nameFrom 0 v1)).bind fun q3 =>
          if q3.1 = 0 then
            some (0, q3.2)
          else
            r_places_60 d q3.2 v1 q2.1 0) :=
  ga_blk_eq am_G (am_run d) mt_r_places 17 27 [(0, 7, 0), (1, 0, v1)] [(0, s0), (0, s1), (7, 0)] σ
set_option maxRecDepth 100000 in
theorem e_r_places_137 (d : Nat) (σ : ga_S) (v1 v2 : Int) : r_places_137 d σ v1 v2 = if (σ fR_placeSort 0 0) = 0 then
    r_places_160 d σ v1
  else
    ga_ck v1 5000 ((c_r_putThere d σ v2 (σ fR_nameFrom 0 v1)).bind fun q4 =>
        if q4.1 = 0 then
          some (0, q4.2)
        else
          r_places_160 d q4.2 v1) :=
  ga_blk_eq am_G (am_run d) mt_r_places 13 137 [(0, 7, 0), (1, 0, v1), (2, 0, v2)] [] σ
set_option maxRecDepth 100000 in
theorem e_r_places_60 (d : Nat) (σ : ga_S) (v1 v2 v3 : Int) : r_places_60 d σ v1 v2 v3 = if v3 < (σ fR_described 0 0) then
    ga_ck v3 8 (if (σ fR_describedValue 0 v3) = (-1) then
        ga_ck v3 8 (ga_ck v1 5000 ((c_r_hold d σ v2 (σ fR_describedWhich 0 v3) (σ fR_nameFrom 0 v1)).bind fun q6 =>
              r_places_122 d q6.2 v1 v2 v3 q6.1))
      else
        ga_ck v3 8 (ga_ck v3 8 (ga_ck v1 5000 ((c_r_set d σ v2 (σ fR_describedWhich 0 v3) (σ fR_describedValue 0 v3) 0 (σ fR_nameFrom 0 v1)).bind fun q5 =>
                r_places_122 d q5.2 v1 v2 v3 q5.1))))
  else
    r_places_137 d σ v1 v2 :=
  ga_blk_eq am_G (am_run d) mt_r_places 26 60 [(0, 7, 0), (1, 0, v1), (2, 0, v2), (3, 0, v3)] [] σ
set_option maxRecDepth 100000 in
theorem e_r_places_160 (d : Nat) (σ : ga_S) (v1 : Int) : r_places_160 d σ v1 = r_places_2 d σ (w32 (v1 + 1)) :=
  ga_blk_eq am_G (am_run d) mt_r_places 2 160 [(0, 7, 0), (1, 0, v1)] [] σ
set_option maxRecDepth 100000 in
theorem e_r_places_122 (d : Nat) (σ : ga_S) (v1 v2 v3 s0 : Int) : r_places_122 d σ v1 v2 v3 s0 = if s0 = 0 then
    some (0, σ)
  else
    r_places_60 d σ v1 v2 (w32 (v3 + 1)) :=
  ga_blk_eq am_G (am_run d) mt_r_places 5 122 [(0, 7, 0), (1, 0, v1), (2, 0, v2), (3, 0, v3)] [(0, s0)] σ
set_option maxRecDepth 100000 in
theorem e_r_way (d : Nat) (σ : ga_S) : c_r_way (d + 1) σ = (c_r_objectFor d σ 0 1).bind fun q1 =>
    ga_ck (q1.2 fR_object0 0 0) 24 (ga_nn (q1.2 fR_object0 0 0) (ga_ck (q1.2 fR_kind0 0 0) 6 (if (q1.2 fW_ways (q1.2 fR_object0 0 0) (q1.2 fR_kind0 0 0)) = (-1) then
            r_way_46 d q1.2 q1.1 (q1.2 fW_ways (q1.2 fR_object0 0 0) (q1.2 fR_kind0 0 0))
          else
            if (q1.2 fW_ways (q1.2 fR_object0 0 0) (q1.2 fR_kind0 0 0)) = q1.1 then
              r_way_46 d q1.2 q1.1 (q1.2 fW_ways (q1.2 fR_object0 0 0) (q1.2 fR_kind0 0 0))
            else
              (c_r_otherwise d q1.2 (q1.2 fR_nameFrom 0 0)).bind fun q2 =>
                ga_01 q2.1 (some (q2.1, q2.2))))) :=
  ga_blk_eq am_G (am_run d) mt_r_way 28 0 [(0, 7, 0)] [] σ
set_option maxRecDepth 100000 in
theorem e_r_way_46 (d : Nat) (σ : ga_S) (v1 v2 : Int) : r_way_46 d σ v1 v2 = if v2 = (-1) then
    ga_ck (σ fR_object0 0 0) 24 (ga_nn (σ fR_object0 0 0) (ga_ck (σ fR_kind0 0 0) 6 (ga_ck (σ fW_toldWays 0 0) 144 (ga_ck (σ fW_toldWays 0 0) 144 (r_way_114 d (ga_up (ga_up (ga_up (ga_up σ fW_ways (σ fR_object0 0 0) (σ fR_kind0 0 0) v1) fW_wayFrom 0 (σ fW_toldWays 0 0) (σ fR_object0 0 0)) fW_toldWays 0 0 (w32 ((σ fW_toldWays 0 0) + 1))) fW_wayBy 0 (σ fW_toldWays 0 0) (σ fR_kind0 0 0)) v1)))))
  else
    r_way_114 d σ v1 :=
  ga_blk_eq am_G (am_run d) mt_r_way 36 46 [(0, 7, 0), (1, 0, v1), (2, 0, v2)] [] σ
set_option maxRecDepth 100000 in
theorem e_r_way_114 (d : Nat) (σ : ga_S) (v1 : Int) : r_way_114 d σ v1 = some (1, (ga_up σ fR_latest 0 0 v1)) :=
  ga_blk_eq am_G (am_run d) mt_r_way 5 114 [(0, 7, 0), (1, 0, v1)] [] σ
set_option maxRecDepth 100000 in
theorem e_r_values (d : Nat) (σ : ga_S) : c_r_values (d + 1) σ = r_values_2 d σ 0 :=
  ga_blk_eq am_G (am_run d) mt_r_values 2 0 [(0, 7, 0)] [] σ
set_option maxRecDepth 100000 in
theorem e_r_values_2 (d : Nat) (σ : ga_S) (v1 : Int) : r_values_2 d σ v1 = if v1 < (σ fR_runs 0 0) then
    ga_ck v1 5000 (ga_ck v1 5000 ((c_w_newValue d σ (σ fR_kind0 0 0)).bind fun q1 =>
          (c_r_tell d q1.2 (σ fR_runFrom 0 v1) (σ fR_runTo 0 v1) 4 q1.1).bind fun q2 =>
            r_values_2 d q2.2 (w32 (v1 + 1))))
  else
    some (1, σ) :=
  ga_blk_eq am_G (am_run d) mt_r_values 22 2 [(0, 7, 0), (1, 0, v1)] [] σ
set_option maxRecDepth 100000 in
theorem e_r_adjectives (d : Nat) (σ : ga_S) : c_r_adjectives (d + 1) σ = if (σ fR_usually 0 0) = 0 then
    r_adjectives_95 d σ (σ fR_runFrom 0 0) (σ fR_runTo 0 0) 0
  else
    (c_r_adjective d σ (σ fR_runFrom 0 0) (σ fR_runTo 0 0) (σ fR_kind0 0 0) 0 0).bind fun q1 =>
      if (q1.2 fR_foundAdjective 0 0) = (-1) then
        (c_r_set d q1.2 (w32 (24 + (q1.2 fR_kind0 0 0))) (q1.2 fR_foundProperty 0 0) (q1.2 fR_foundValue 0 0) 0 (q1.2 fR_nameFrom 0 0)).bind fun q2 =>
          ga_01 q2.1 (some (q2.1, q2.2))
      else
        (c_r_hold d q1.2 (w32 (24 + (q1.2 fR_kind0 0 0))) (q1.2 fR_foundAdjective 0 0) (q1.2 fR_nameFrom 0 0)).bind fun q3 =>
          ga_01 q3.1 (some (q3.1, q3.2)) :=
  ga_blk_eq am_G (am_run d) mt_r_adjectives 42 0 [(0, 7, 0)] [] σ
set_option maxRecDepth 100000 in
theorem e_r_adjectives_95 (d : Nat) (σ : ga_S) (v1 v2 v3 : Int) : r_adjectives_95 d σ v1 v2 v3 = if v3 < (σ fR_names 0 0) then
    (c_r_objectAt d σ v3).bind fun q5 =>
      ga_ck q5.1 24 ((c_r_adjective d q5.2 v1 v2 (q5.2 fW_kindOf 0 q5.1) (q5.2 fR_not 0 0) 0).bind fun q6 =>
          if (q6.2 fR_foundAdjective 0 0) = (-1) then
            ga_ck v3 5000 ((c_r_set d q6.2 q5.1 (q6.2 fR_foundProperty 0 0) (q6.2 fR_foundValue 0 0) 0 (q6.2 fR_nameFrom 0 v3)).bind fun q7 =>
                r_adjectives_202 d q7.2 v1 v2 v3 q7.1)
          else
            if (q6.2 fR_not 0 0) = 0 then
              r_adjectives_169 d q6.2 v1 v2 v3 (q6.2 fR_foundAdjective 0 0) q5.1
            else
              ga_ck (q6.2 fR_foundAdjective 0 0) 24 (r_adjectives_169 d q6.2 v1 v2 v3 (q6.2 fW_contraries 0 (q6.2 fR_foundAdjective 0 0)) q5.1))
  else
    (c_r_objectAt d σ 0).bind fun q4 =>
      some (1, (ga_up q4.2 fR_latest 0 0 q4.1)) :=
  ga_blk_eq am_G (am_run d) mt_r_adjectives 37 95 [(0, 7, 0), (1, 0, v1), (2, 0, v2), (3, 0, v3)] [] σ
set_option maxRecDepth 100000 in
theorem e_r_adjectives_202 (d : Nat) (σ : ga_S) (v1 v2 v3 s0 : Int) : r_adjectives_202 d σ v1 v2 v3 s0 = if s0 = 0 then
    some (0, σ)
  else
    r_adjectives_95 d σ v1 v2 (w32 (v3 + 1)) :=
  ga_blk_eq am_G (am_run d) mt_r_adjectives 5 202 [(0, 7, 0), (1, 0, v1), (2, 0, v2), (3, 0, v3)] [(0, s0)] σ
set_option maxRecDepth 100000 in
theorem e_r_adjectives_169 (d : Nat) (σ : ga_S) (v1 v2 v3 s0 s1 : Int) : r_adjectives_169 d σ v1 v2 v3 s0 s1 = ga_ck v3 5000 ((c_r_hold d σ s1 s0 (σ fR_nameFrom 0 v3)).bind fun q8 =>
      r_adjectives_202 d q8.2 v1 v2 v3 q8.1) :=
  ga_blk_eq am_G (am_run d) mt_r_adjectives 6 169 [(0, 7, 0), (1, 0, v1), (2, 0, v2), (3, 0, v3)] [(0, s0), (0, s1), (7, 0)] σ
set_option maxRecDepth 100000 in
theorem e_r_owner (d : Nat) (σ : ga_S) : c_r_owner (d + 1) σ = (c_r_mean d σ (σ fR_runFrom 0 1) (σ fR_runTo 0 1) 5).bind fun q1 =>
    if q1.1 = (-1) then
      ga_ck (q1.2 fW_properties 0 0) 12 (ga_ck (q1.2 fW_properties 0 0) 12 ((c_r_tell d (ga_up (ga_up (ga_up q1.2 fW_properties 0 0 (w32 ((q1.2 fW_properties 0 0) + 1))) fW_propertyTypes 0 (q1.2 fW_properties 0 0) (q1.2 fR_object0 0 0)) fW_propertyKinds 0 (q1.2 fW_properties 0 0) 0) (q1.2 fR_runFrom 0 1) (q1.2 fR_runTo 0 1) 5 (q1.2 fW_properties 0 0)).bind fun q2 =>
            r_owner_106 d q2.2 (q1.2 fW_properties 0 0)))
    else
      ga_ck q1.1 12 (if (q1.2 fW_propertyTypes 0 q1.1) = (q1.2 fR_object0 0 0) then
          r_owner_106 d q1.2 q1.1
        else
          (c_r_otherwise d q1.2 (q1.2 fR_nameFrom 0 0)).bind fun q3 =>
            ga_01 q3.1 (some (q3.1, q3.2))) :=
  ga_blk_eq am_G (am_run d) mt_r_owner 49 0 [(0, 7, 0)] [] σ
set_option maxRecDepth 100000 in
theorem e_r_owner_106 (d : Nat) (σ : ga_S) (v1 : Int) : r_owner_106 d σ v1 = ga_ck v1 12 (ga_ck v1 12 (some (1, (ga_up σ fW_propertyKinds 0 v1 (ga_ior (σ fW_propertyKinds 0 v1) (ga_ishl 1 (σ fR_kind0 0 0))))))) :=
  ga_blk_eq am_G (am_run d) mt_r_owner 14 106 [(0, 7, 0), (1, 0, v1)] [] σ
set_option maxRecDepth 100000 in
theorem e_r_relates (d : Nat) (σ : ga_S) : c_r_relates (d + 1) σ = (c_r_several d σ 0 (σ fR_verbAt 0 0)).bind fun q1 =>
    if 0 < q1.1 then
      r_relates_47 d q1.2 (w32 ((σ fT_count 0 0) - 1)) 7 (w32 ((σ fR_verbAt 0 0) + 1)) (σ fR_verbAt 0 0)
    else
      r_relates_47 d q1.2 (w32 ((σ fT_count 0 0) - 1)) 12 (w32 ((σ fR_verbAt 0 0) + 1)) (σ fR_verbAt 0 0) :=
  ga_blk_eq am_G (am_run d) mt_r_relates 24 0 [(0, 7, 0)] [] σ
set_option maxRecDepth 100000 in
theorem e_r_relates_47 (d : Nat) (σ : ga_S) (v1 s0 s1 s2 : Int) : r_relates_47 d σ v1 s0 s1 s2 = (c_r_mean d σ s2 s1 s0).bind fun q2 =>
    ga_ck q2.1 8 (ga_ck (q2.2 fW_verbRelations 0 q2.1) 6 ((c_r_listed d q2.2 0 (q2.2 fR_verbAt 0 0) (q2.2 fW_relationA 0 (q2.2 fW_verbRelations 0 q2.1)) 0).bind fun q3 =>
          ga_ck (q2.2 fW_verbRelations 0 q2.1) 6 ((c_r_listed d q3.2 (w32 ((q3.2 fR_verbAt 0 0) + 1)) v1 (q3.2 fW_relationB 0 (q2.2 fW_verbRelations 0 q2.1)) q3.1).bind fun q4 =>
              r_relates_98 d q4.2 (q2.2 fW_verbRelations 0 q2.1) q3.1 q4.1 0))) :=
  ga_blk_eq am_G (am_run d) mt_r_relates 31 47 [(0, 7, 0), (1, 0, v1)] [(0, s0), (0, s1), (0, s2), (7, 0), (45, 0)] σ
set_option maxRecDepth 100000 in
theorem e_r_relates_98 (d : Nat) (σ : ga_S) (v2 v3 v4 v5 : Int) : r_relates_98 d σ v2 v3 v4 v5 = if v5 < v3 then
    r_relates_107 d σ v2 v3 v4 v5 0
  else
    some (1, σ) :=
  ga_blk_eq am_G (am_run d) mt_r_relates 5 98 [(0, 7, 0), (2, 0, v2), (3, 0, v3), (4, 0, v4), (5, 0, v5)] [] σ
set_option maxRecDepth 100000 in
theorem e_r_relates_107 (d : Nat) (σ : ga_S) (v2 v3 v4 v5 v6 : Int) : r_relates_107 d σ v2 v3 v4 v5 v6 = if v6 < v4 then
    ga_ck v5 5000 (ga_ck (w32 (v3 + v6)) 5000 (r_relates_137 d σ v2 v3 v4 v5 v6 (σ fR_nameFrom 0 v5) (σ fR_nameFrom 0 (w32 (v3 + v6))) 0))
  else
    r_relates_98 d σ v2 v3 v4 (w32 (v5 + 1)) :=
  ga_blk_eq am_G (am_run d) mt_r_relates 17 107 [(0, 7, 0), (2, 0, v2), (3, 0, v3), (4, 0, v4), (5, 0, v5), (6, 0, v6)] [] σ
set_option maxRecDepth 100000 in
theorem e_r_relates_137 (d : Nat) (σ : ga_S) (v2 v3 v4 v5 v6 v7 v8 v9 : Int) : r_relates_137 d σ v2 v3 v4 v5 v6 v7 v8 v9 = if v9 < (σ fW_objects 0 0) then
    ga_ck v2 6 (if (σ fW_oneA 0 v2) = 0 then
        r_relates_189 d σ v2 v3 v4 v5 v6 v7 v8 v9
      else
        if v9 = v7 then
          r_relates_189 d σ v2 v3 v4 v5 v6 v7 v8 v9
        else
          ga_ck v2 6 (ga_nn v2 (ga_ck (w32 ((w32 (24 * v9)) + v8)) 576 (if (σ fW_related v2 (w32 ((w32 (24 * v9)) + v8))) = 0 then
                  r_relates_189 d σ v2 v3 v4 v5 v6 v7 v8 v9
                else
                  r_relates_229 d σ v2 v3 v4 v5 v6 v7 v8 v9))))
  else
    ga_ck v2 6 (ga_nn v2 (ga_ck (w32 ((w32 (24 * v7)) + v8)) 576 (r_relates_107 d (ga_up σ fW_related v2 (w32 ((w32 (24 * v7)) + v8)) 1) v2 v3 v4 v5 (w32 (v6 + 1))))) :=
  ga_blk_eq am_G (am_run d) mt_r_relates 26 137 [(0, 7, 0), (2, 0, v2), (3, 0, v3), (4, 0, v4), (5, 0, v5), (6, 0, v6), (7, 0, v7), (8, 0, v8), (9, 0, v9)] [] σ
set_option maxRecDepth 100000 in
theorem e_r_relates_189 (d : Nat) (σ : ga_S) (v2 v3 v4 v5 v6 v7 v8 v9 : Int) : r_relates_189 d σ v2 v3 v4 v5 v6 v7 v8 v9 = ga_ck v2 6 (if (σ fW_oneB 0 v2) = 0 then
      r_relates_233 d σ v2 v3 v4 v5 v6 v7 v8 v9
    else
      if v9 = v8 then
        r_relates_233 d σ v2 v3 v4 v5 v6 v7 v8 v9
      else
        ga_ck v2 6 (ga_nn v2 (ga_ck (w32 ((w32 (24 * v7)) + v9)) 576 (if (σ fW_related v2 (w32 ((w32 (24 * v7)) + v9))) = 0 then
                r_relates_233 d σ v2 v3 v4 v5 v6 v7 v8 v9
              else
                r_relates_229 d σ v2 v3 v4 v5 v6 v7 v8 v9)))) :=
  ga_blk_eq am_G (am_run d) mt_r_relates 21 189 [(0, 7, 0), (2, 0, v2), (3, 0, v3), (4, 0, v4), (5, 0, v5), (6, 0, v6), (7, 0, v7), (8, 0, v8), (9, 0, v9)] [] σ
set_option maxRecDepth 100000 in
theorem e_r_relates_229 (d : Nat) (σ : ga_S) (v2 v3 v4 v5 v6 v7 v8 v9 : Int) : r_relates_229 d σ v2 v3 v4 v5 v6 v7 v8 v9 = r_relates_234 d σ v2 v3 v4 v5 v6 v7 v8 v9 1 :=
  ga_blk_eq am_G (am_run d) mt_r_relates 2 229 [(0, 7, 0), (2, 0, v2), (3, 0, v3), (4, 0, v4), (5, 0, v5), (6, 0, v6), (7, 0, v7), (8, 0, v8), (9, 0, v9)] [] σ
set_option maxRecDepth 100000 in
theorem e_r_relates_233 (d : Nat) (σ : ga_S) (v2 v3 v4 v5 v6 v7 v8 v9 : Int) : r_relates_233 d σ v2 v3 v4 v5 v6 v7 v8 v9 = r_relates_234 d σ v2 v3 v4 v5 v6 v7 v8 v9 0 :=
  ga_blk_eq am_G (am_run d) mt_r_relates 1 233 [(0, 7, 0), (2, 0, v2), (3, 0, v3), (4, 0, v4), (5, 0, v5), (6, 0, v6), (7, 0, v7), (8, 0, v8), (9, 0, v9)] [] σ
set_option maxRecDepth 100000 in
theorem e_r_relates_234 (d : Nat) (σ : ga_S) (v2 v3 v4 v5 v6 v7 v8 v9 s0 : Int) : r_relates_234 d σ v2 v3 v4 v5 v6 v7 v8 v9 s0 = if s0 = 0 then
    r_relates_137 d σ v2 v3 v4 v5 v6 v7 v8 (w32 (v9 + 1))
  else
    (c_r_otherwise d σ 0).bind fun q5 =>
      ga_01 q5.1 (some (q5.1, q5.2)) :=
  ga_blk_eq am_G (am_run d) mt_r_relates 7 234 [(0, 7, 0), (2, 0, v2), (3, 0, v3), (4, 0, v4), (5, 0, v5), (6, 0, v6), (7, 0, v7), (8, 0, v8), (9, 0, v9)] [(0, s0)] σ
set_option maxRecDepth 100000 in
theorem e_r_keepCommand (d : Nat) (σ : ga_S) : c_r_keepCommand (d + 1) σ = ga_ck (σ fW_commands 0 0) 20 (ga_ck (σ fW_commands 0 0) 20 (ga_ck (σ fW_commands 0 0) 20 (ga_ck (σ fW_commands 0 0) 20 (r_keepCommand_69 d (ga_up (ga_up (ga_up (ga_up (ga_up σ fW_commands 0 0 (w32 ((σ fW_commands 0 0) + 1))) fW_commandActions 0 (σ fW_commands 0 0) (σ fR_kind0 0 0)) fW_commandWords 0 (σ fW_commands 0 0) (σ fR_commandCount 0 0)) fW_commandSlots 0 (σ fW_commands 0 0) (σ fR_commandSlot 0 0)) fW_commandKinds 0 (σ fW_commands 0 0) (σ fR_commandKind 0 0)) (σ fW_commands 0 0) 0)))) :=
  ga_blk_eq am_G (am_run d) mt_r_keepCommand 39 0 [(0, 7, 0)] [] σ
set_option maxRecDepth 100000 in
theorem e_r_keepCommand_69 (d : Nat) (σ : ga_S) (v1 v2 : Int) : r_keepCommand_69 d σ v1 v2 = if v2 < (σ fR_commandCount 0 0) then
    ga_ck v1 20 (ga_nn v1 (ga_ck v2 8 (ga_ck v1 20 (ga_ck v2 8 (ga_ck v2 8 (ga_nn v1 (ga_ck v2 8 (ga_ck v2 8 (r_keepCommand_126 d (ga_up (ga_up σ fW_commandFrom v1 v2 (σ fW_commandUsed 0 0)) fW_commandSize v1 v2 (w32 ((σ fR_commandTo 0 v2) - (σ fR_commandFrom 0 v2)))) v1 v2 (σ fR_commandFrom 0 v2))))))))))
  else
    some (0, σ) :=
  ga_blk_eq am_G (am_run d) mt_r_keepCommand 35 69 [(0, 7, 0), (1, 0, v1), (2, 0, v2)] [] σ
set_option maxRecDepth 100000 in
theorem e_r_keepCommand_126 (d : Nat) (σ : ga_S) (v1 v2 v3 : Int) : r_keepCommand_126 d σ v1 v2 v3 = ga_ck v2 8 (if v3 < (σ fR_commandTo 0 v2) then
      if v2 = (σ fR_commandSlot 0 0) then
        r_keepCommand_181 d σ v1 v2
      else
        (c_t_low d (ga_up σ fW_commandUsed 0 0 (w32 ((σ fW_commandUsed 0 0) + 1))) 0 v3).bind fun q1 =>
          ga_ck (σ fW_commandUsed 0 0) 3000 (r_keepCommand_126 d (ga_up q1.2 fW_commandLetters 0 (σ fW_commandUsed 0 0) (w8 (w8 q1.1))) v1 v2 (w32 (v3 + 1)))
    else
      r_keepCommand_181 d σ v1 v2) :=
  ga_blk_eq am_G (am_run d) mt_r_keepCommand 29 126 [(0, 7, 0), (1, 0, v1), (2, 0, v2), (3, 0, v3)] [] σ
set_option maxRecDepth 100000 in
theorem e_r_keepCommand_181 (d : Nat) (σ : ga_S) (v1 v2 : Int) : r_keepCommand_181 d σ v1 v2 = r_keepCommand_69 d σ v1 (w32 (v2 + 1)) :=
  ga_blk_eq am_G (am_run d) mt_r_keepCommand 2 181 [(0, 7, 0), (1, 0, v1), (2, 0, v2)] [] σ
set_option maxRecDepth 100000 in
theorem e_r_story (d : Nat) (σ : ga_S) (a1 : Int) : c_r_story (d + 1) σ a1 = r_story_19 d (ga_up (ga_up (ga_up σ fR_inner 0 0 a1) fR_fault 0 0 0) fR_latest 0 0 (-1)) 0 1 :=
  ga_blk_eq am_G (am_run d) mt_r_story 13 0 [(0, 7, 0), (1, 6, a1)] [] σ
set_option maxRecDepth 100000 in
theorem e_r_story_19 (d : Nat) (σ : ga_S) (v2 v3 : Int) : r_story_19 d σ v2 v3 = if v3 = 0 then
    if (σ fR_fault 0 0) = 0 then
      some (v2, σ)
    else
      some ((-1), σ)
  else
    (c_t_sentence d σ 0).bind fun q1 =>
      if (q1.2 fT_wrong 0 0) = (-1) then
        if (q1.2 fT_count 0 0) = 1 then
          (c_r_is d q1.2 0 8).bind fun q2 =>
            if q2.1 = 0 then
              r_story_109 d q2.2 v2 v3
            else
              if v2 = 0 then
                r_story_159 d (ga_up (ga_up q2.2 fR_fault 0 0 2) fR_where 0 0 (q2.2 fT_places 0 0)) v2 0
              else
                r_story_159 d q2.2 v2 0
        else
          r_story_109 d q1.2 v2 v3
      else
        r_story_159 d (ga_up (ga_up q1.2 fR_fault 0 0 1) fR_where 0 0 (q1.2 fT_wrong 0 0)) v2 v3 :=
  ga_blk_eq am_G (am_run d) mt_r_story 35 19 [(0, 7, 0), (2, 0, v2), (3, 0, v3)] [] σ
set_option maxRecDepth 100000 in
theorem e_r_story_109 (d : Nat) (σ : ga_S) (v2 v3 : Int) : r_story_109 d σ v2 v3 = (c_r_shape d σ).bind fun q3 =>
    if q3.1 = 0 then
      ga_ck (q3.2 fR_bad 0 0) 5002 (r_story_159 d (ga_up (ga_up q3.2 fR_fault 0 0 2) fR_where 0 0 (q3.2 fT_places 0 (q3.2 fR_bad 0 0))) v2 v3)
    else
      (c_r_check d q3.2).bind fun q4 =>
        if (q4.2 fR_fault 0 0) = 0 then
          (c_r_act d q4.2).bind fun q5 =>
            r_story_159 d q5.2 (w32 (v2 + 1)) v3
        else
          r_story_159 d q4.2 v2 v3 :=
  ga_blk_eq am_G (am_run d) mt_r_story 15 109 [(0, 7, 0), (2, 0, v2), (3, 0, v3)] [] σ
set_option maxRecDepth 100000 in
theorem e_r_story_159 (d : Nat) (σ : ga_S) (v2 v3 : Int) : r_story_159 d σ v2 v3 = if (σ fR_fault 0 0) = 0 then
    r_story_172 d σ v2 1 v3
  else
    r_story_172 d σ v2 0 v3 :=
  ga_blk_eq am_G (am_run d) mt_r_story 6 159 [(0, 7, 0), (2, 0, v2), (3, 0, v3)] [] σ
set_option maxRecDepth 100000 in
theorem e_r_story_172 (d : Nat) (σ : ga_S) (v2 s0 s1 : Int) : r_story_172 d σ v2 s0 s1 = r_story_19 d σ v2 (ga_iand s1 s0) :=
  ga_blk_eq am_G (am_run d) mt_r_story 3 172 [(0, 7, 0), (2, 0, v2)] [(0, s0), (0, s1)] σ
set_option maxRecDepth 100000 in
theorem e_u_write (d : Nat) (σ : ga_S) (a1 : Int) : c_u_write (d + 1) σ a1 = if (σ fU_outs 0 0) < 2000 then
    ga_ck (σ fU_outs 0 0) 2000 (some (0, (ga_up (ga_up σ fU_outs 0 0 (w32 ((σ fU_outs 0 0) + 1))) fU_out 0 (σ fU_outs 0 0) (w8 (w8 a1)))))
  else
    some (0, σ) :=
  ga_blk_eq am_G (am_run d) mt_u_write 17 0 [(0, 8, 0), (1, 0, a1)] [] σ
set_option maxRecDepth 100000 in
theorem e_u_writeWords (d : Nat) (σ : ga_S) (a1 : Int) : c_u_writeWords (d + 1) σ a1 = u_writeWords_2 d σ a1 0 :=
  ga_blk_eq am_G (am_run d) mt_u_writeWords 2 0 [(0, 8, 0), (1, 0, a1)] [] σ
set_option maxRecDepth 100000 in
theorem e_u_writeWords_2 (d : Nat) (σ : ga_S) (v1 v2 : Int) : u_writeWords_2 d σ v1 v2 = ga_ck v1 640 (if v2 < (σ fD_sizes 0 v1) then
      ga_ck v1 640 (ga_ck (w32 ((σ fD_froms 0 v1) + v2)) 24000 ((c_u_write d σ (σ fD_letters 0 (w32 ((σ fD_froms 0 v1) + v2)))).bind fun q1 =>
            u_writeWords_2 d q1.2 v1 (w32 (v2 + 1))))
    else
      some (0, σ)) :=
  ga_blk_eq am_G (am_run d) mt_u_writeWords 25 2 [(0, 8, 0), (1, 0, v1), (2, 0, v2)] [] σ
set_option maxRecDepth 100000 in
theorem e_u_writeNumber (d : Nat) (σ : ga_S) (a1 : Int) : c_u_writeNumber (d + 1) σ a1 = if a1 < 0 then
    u_writeNumber_10 d σ a1 (w32 (-a1))
  else
    u_writeNumber_10 d σ a1 a1 :=
  ga_blk_eq am_G (am_run d) mt_u_writeNumber 5 0 [(0, 8, 0), (1, 0, a1)] [] σ
set_option maxRecDepth 100000 in
theorem e_u_writeNumber_10 (d : Nat) (σ : ga_S) (v1 s0 : Int) : u_writeNumber_10 d σ v1 s0 = if v1 < 0 then
    (c_u_write d σ 45).bind fun q1 =>
      u_writeNumber_21 d q1.2 s0
  else
    u_writeNumber_21 d σ s0 :=
  ga_blk_eq am_G (am_run d) mt_u_writeNumber 6 10 [(0, 8, 0), (1, 0, v1)] [(0, s0)] σ
set_option maxRecDepth 100000 in
theorem e_u_writeNumber_21 (d : Nat) (σ : ga_S) (v2 : Int) : u_writeNumber_21 d σ v2 = u_writeNumber_23 d σ v2 1 :=
  ga_blk_eq am_G (am_run d) mt_u_writeNumber 2 21 [(0, 8, 0), (2, 0, v2)] [] σ
set_option maxRecDepth 100000 in
theorem e_u_writeNumber_23 (d : Nat) (σ : ga_S) (v2 v3 : Int) : u_writeNumber_23 d σ v2 v3 = ga_nz v3 (if 9 < (w32 (Int.tdiv v2 v3)) then
      u_writeNumber_23 d σ v2 (w32 (v3 * 10))
    else
      u_writeNumber_39 d σ v2 v3) :=
  ga_blk_eq am_G (am_run d) mt_u_writeNumber 10 23 [(0, 8, 0), (2, 0, v2), (3, 0, v3)] [] σ
set_option maxRecDepth 100000 in
theorem e_u_writeNumber_39 (d : Nat) (σ : ga_S) (v2 v3 : Int) : u_writeNumber_39 d σ v2 v3 = if 0 < v3 then
    ga_nz v3 ((c_u_write d σ (w32 (48 + (w32 (Int.tmod (w32 (Int.tdiv v2 v3)) 10))))).bind fun q2 =>
        u_writeNumber_39 d q2.2 v2 (w32 (Int.tdiv v3 10)))
  else
    some (0, σ) :=
  ga_blk_eq am_G (am_run d) mt_u_writeNumber 16 39 [(0, 8, 0), (2, 0, v2), (3, 0, v3)] [] σ
set_option maxRecDepth 100000 in
theorem e_u_writeText (d : Nat) (σ : ga_S) (a1 a2 : Int) : c_u_writeText (d + 1) σ a1 a2 = u_writeText_2 d σ a1 a2 0 :=
  ga_blk_eq am_G (am_run d) mt_u_writeText 2 0 [(0, 8, 0), (1, 0, a1), (2, 0, a2)] [] σ
set_option maxRecDepth 100000 in
theorem e_u_writeText_2 (d : Nat) (σ : ga_S) (v1 v2 v3 : Int) : u_writeText_2 d σ v1 v2 v3 = if v3 < v2 then
    ga_nn (0 + 1) (ga_nn (0 + 1) (ga_ck (w32 (v1 + v3)) 5000 ((c_u_write d σ (σ fT_bytes (0 + 1) (w32 (v1 + v3)))).bind fun q1 =>
            u_writeText_2 d q1.2 v1 v2 (w32 (v3 + 1)))))
  else
    some (0, σ) :=
  ga_blk_eq am_G (am_run d) mt_u_writeText 14 2 [(0, 8, 0), (1, 0, v1), (2, 0, v2), (3, 0, v3)] [] σ
set_option maxRecDepth 100000 in
theorem e_u_writeProperty (d : Nat) (σ : ga_S) (a1 a2 : Int) : c_u_writeProperty (d + 1) σ a1 a2 = (c_w_hasAt d σ a1 a2).bind fun q1 =>
    ga_ck a2 12 (if (q1.2 fW_propertyTypes 0 a2) = 1 then
        if q1.1 = (-1) then
          some (0, q1.2)
        else
          ga_ck q1.1 40 (ga_nn q1.1 (ga_ck a2 12 (ga_ck q1.1 40 (ga_nn q1.1 (ga_ck a2 12 ((c_u_writeText d q1.2 (q1.2 fW_numbers q1.1 a2) (q1.2 fW_lengths q1.1 a2)).bind fun q8 =>
                        some (0, q8.2)))))))
      else
        ga_ck a2 12 (if (q1.2 fW_propertyTypes 0 a2) = 0 then
            (c_w_number d q1.2 a1 a2).bind fun q6 =>
              (c_u_writeNumber d q6.2 q6.1).bind fun q7 =>
                some (0, q7.2)
          else
            (c_w_number d q1.2 a1 a2).bind fun q2 =>
              if q2.1 = (-1) then
                some (0, q2.2)
              else
                (c_w_number d q2.2 a1 a2).bind fun q3 =>
                  (c_d_entry d q3.2 4 q3.1).bind fun q4 =>
                    (c_u_writeWords d q4.2 q4.1).bind fun q5 =>
                      some (0, q5.2))) :=
  ga_blk_eq am_G (am_run d) mt_u_writeProperty 39 0 [(0, 8, 0), (1, 0, a1), (2, 0, a2)] [] σ
set_option maxRecDepth 100000 in
theorem e_u_object (d : Nat) (σ : ga_S) (a0 a1 a2 : Int) : c_u_object (d + 1) σ a0 a1 a2 = if a0 = (-2) then
    some (a1, σ)
  else
    if a0 = (-3) then
      some (a2, σ)
    else
      some (a0, σ) :=
  ga_blk_eq am_G (am_run d) mt_u_object 9 0 [(0, 0, a0), (1, 0, a1), (2, 0, a2)] [] σ
set_option maxRecDepth 100000 in
theorem e_u_holds (d : Nat) (σ : ga_S) (a1 a2 : Int) : c_u_holds (d + 1) σ a1 a2 = ga_ck a2 24 (if (σ fW_contraries 0 a2) = (-1) then
      ga_ck a2 24 ((c_w_isKind d σ a1 (σ fW_adjectiveKinds 0 a2)).bind fun q1 =>
          if q1.1 = 0 then
            some (0, q1.2)
          else
            if (q1.2 fU_definedWithin 0 0) = 8 then
              some (0, q1.2)
            else
              ga_ck a2 24 ((c_u_tests d (ga_up q1.2 fU_definedWithin 0 0 (w32 ((q1.2 fU_definedWithin 0 0) + 1))) (q1.2 fW_defined 0 a2) a1 (-1)).bind fun q2 =>
                  ga_01 q2.1 (some (q2.1, (ga_up q2.2 fU_definedWithin 0 0 (w32 ((q2.2 fU_definedWithin 0 0) - 1)))))))
    else
      (c_w_isTold d σ a1 a2).bind fun q3 =>
        ga_01 q3.1 (some (q3.1, q3.2))) :=
  ga_blk_eq am_G (am_run d) mt_u_holds 45 0 [(0, 8, 0), (1, 0, a1), (2, 0, a2)] [] σ
set_option maxRecDepth 100000 in
theorem e_u_tests (d : Nat) (σ : ga_S) (a1 a2 a3 : Int) : c_u_tests (d + 1) σ a1 a2 a3 = u_tests_6 d σ a1 a2 a3 1 0 :=
  ga_blk_eq am_G (am_run d) mt_u_tests 4 0 [(0, 8, 0), (1, 9, a1), (2, 0, a2), (3, 0, a3)] [] σ
set_option maxRecDepth 100000 in
theorem e_u_tests_6 (d : Nat) (σ : ga_S) (v1 v2 v3 v4 v5 : Int) : u_tests_6 d σ v1 v2 v3 v4 v5 = ga_nn v1 (if v5 < (σ fQ_tests v1 0) then
      if v4 = 0 then
        ga_01 v4 (some (v4, σ))
      else
        ga_nn v1 (ga_nn v1 (ga_ck v5 6 ((c_u_test d σ (14 * v1 + v5) v2 v3).bind fun q1 =>
                u_tests_6 d q1.2 v1 v2 v3 q1.1 (w32 (v5 + 1)))))
    else
      ga_01 v4 (some (v4, σ))) :=
  ga_blk_eq am_G (am_run d) mt_u_tests 17 6 [(0, 8, 0), (1, 9, v1), (2, 0, v2), (3, 0, v3), (4, 0, v4), (5, 0, v5)] [] σ
set_option maxRecDepth 100000 in
theorem e_u_isText (d : Nat) (σ : ga_S) (a1 a2 : Int) : c_u_isText (d + 1) σ a1 a2 = ga_nn a2 ((c_w_hasAt d σ a1 (σ fS_which a2 0)).bind fun q1 =>
      if q1.1 = (-1) then
        u_isText_36 d q1.2 a2 q1.1 0
      else
        ga_ck q1.1 40 (ga_nn a2 (ga_nn q1.1 (ga_ck (q1.2 fS_which a2 0) 12 (u_isText_36 d q1.2 a2 q1.1 (q1.2 fW_lengths q1.1 (q1.2 fS_which a2 0))))))) :=
  ga_blk_eq am_G (am_run d) mt_u_isText 18 0 [(0, 8, 0), (1, 0, a1), (2, 10, a2)] [] σ
set_option maxRecDepth 100000 in
theorem e_u_isText_36 (d : Nat) (σ : ga_S) (v2 v3 s0 : Int) : u_isText_36 d σ v2 v3 s0 = ga_nn v2 (if s0 = (σ fS_length v2 0) then
      u_isText_52 d σ v2 v3 s0 1
    else
      u_isText_52 d σ v2 v3 s0 0) :=
  ga_blk_eq am_G (am_run d) mt_u_isText 7 36 [(0, 8, 0), (2, 10, v2), (3, 0, v3)] [(0, s0)] σ
set_option maxRecDepth 100000 in
theorem e_u_isText_52 (d : Nat) (σ : ga_S) (v2 v3 v4 s0 : Int) : u_isText_52 d σ v2 v3 v4 s0 = u_isText_57 d σ v2 v3 v4 s0 0 :=
  ga_blk_eq am_G (am_run d) mt_u_isText 3 52 [(0, 8, 0), (2, 10, v2), (3, 0, v3), (4, 0, v4)] [(0, s0)] σ
set_option maxRecDepth 100000 in
theorem e_u_isText_57 (d : Nat) (σ : ga_S) (v2 v3 v4 v5 v6 : Int) : u_isText_57 d σ v2 v3 v4 v5 v6 = if v6 < v4 then
    if v5 = 0 then
      ga_01 v5 (some (v5, σ))
    else
      ga_nn (0 + 1) (ga_ck v3 40 (ga_nn v2 (ga_nn v3 (ga_ck (σ fS_which v2 0) 12 (ga_nn (0 + 1) (ga_ck (w32 ((σ fW_numbers v3 (σ fS_which v2 0)) + v6)) 5000 (ga_nn (0 + 1) (ga_nn v2 (ga_nn (0 + 1) (ga_ck (w32 ((σ fS_value v2 0) + v6)) 5000 (if (σ fT_bytes (0 + 1) (w32 ((σ fW_numbers v3 (σ fS_which v2 0)) + v6))) = (σ fT_bytes (0 + 1) (w32 ((σ fS_value v2 0) + v6))) then
                              u_isText_117 d σ v2 v3 v4 v6 1
                            else
                              u_isText_117 d σ v2 v3 v4 v6 0)))))))))))
  else
    ga_01 v5 (some (v5, σ)) :=
  ga_blk_eq am_G (am_run d) mt_u_isText 30 57 [(0, 8, 0), (2, 10, v2), (3, 0, v3), (4, 0, v4), (5, 0, v5), (6, 0, v6)] [] σ
set_option maxRecDepth 100000 in
theorem e_u_isText_117 (d : Nat) (σ : ga_S) (v2 v3 v4 v6 s0 : Int) : u_isText_117 d σ v2 v3 v4 v6 s0 = u_isText_57 d σ v2 v3 v4 s0 (w32 (v6 + 1)) :=
  ga_blk_eq am_G (am_run d) mt_u_isText 3 117 [(0, 8, 0), (2, 10, v2), (3, 0, v3), (4, 0, v4), (6, 0, v6)] [(0, s0)] σ
set_option maxRecDepth 100000 in
theorem e_u_test (d : Nat) (σ : ga_S) (a1 a2 a3 : Int) : c_u_test (d + 1) σ a1 a2 a3 = ga_nn a1 ((c_u_object d σ (σ fS_thing a1 0) a2 a3).bind fun q1 =>
      ga_nn a1 (if (q1.2 fS_what a1 0) = 0 then
          ga_nn a1 (ga_ck (q1.2 fS_which a1 0) 24 ((c_w_isKind d q1.2 q1.1 (q1.2 fW_adjectiveKinds 0 (q1.2 fS_which a1 0))).bind fun q9 =>
                if q9.1 = 0 then
                  u_test_97 d q9.2 a1
                else
                  ga_nn a1 ((c_u_holds d q9.2 q1.1 (q9.2 fS_which a1 0)).bind fun q10 =>
                      if q10.1 = 0 then
                        u_test_97 d q10.2 a1
                      else
                        u_test_98 d q10.2 a1 1)))
        else
          if (q1.2 fS_what a1 0) = 1 then
            ga_nn a1 ((c_w_number d q1.2 q1.1 (q1.2 fS_which a1 0)).bind fun q8 =>
                ga_nn a1 (if q8.1 = (q8.2 fS_value a1 0) then
                    u_test_128 d q8.2 a1 1
                  else
                    u_test_128 d q8.2 a1 0))
          else
            if (q1.2 fS_what a1 0) = 2 then
              ga_ck q1.1 24 (ga_nn a1 (if (q1.2 fW_placed 0 q1.1) = (q1.2 fS_which a1 0) then
                    ga_ck q1.1 24 (ga_nn a1 ((c_u_object d q1.2 (q1.2 fS_other a1 0) a2 a3).bind fun q7 =>
                          if (q1.2 fW_placeAt 0 q1.1) = q7.1 then
                            u_test_249 d q7.2 a1 1
                          else
                            u_test_248 d q7.2 a1))
                  else
                    u_test_248 d q1.2 a1))
            else
              if (q1.2 fS_what a1 0) = 3 then
                ga_nn a1 ((c_w_number d q1.2 q1.1 (q1.2 fS_which a1 0)).bind fun q6 =>
                    ga_nn a1 (if q6.1 = (q6.2 fS_value a1 0) then
                        u_test_128 d q6.2 a1 1
                      else
                        u_test_128 d q6.2 a1 0))
              else
                if (q1.2 fS_what a1 0) = 4 then
                  (c_u_isText d q1.2 q1.1 a1).bind fun q5 =>
                    u_test_284 d q5.2 a1 q5.1
                else
                  if (q1.2 fS_what a1 0) = 5 then
                    ga_nn a1 ((c_w_number d q1.2 q1.1 (q1.2 fS_which a1 0)).bind fun q4 =>
                        ga_nn a1 (if q4.1 < (q4.2 fS_value a1 0) then
                            u_test_170 d q4.2 a1 1
                          else
                            u_test_170 d q4.2 a1 0))
                  else
                    if (q1.2 fS_what a1 0) = 6 then
                      ga_nn a1 ((c_w_number d q1.2 q1.1 (q1.2 fS_which a1 0)).bind fun q3 =>
                          ga_nn a1 (if (q3.2 fS_value a1 0) < q3.1 then
                              u_test_200 d q3.2 a1 1
                            else
                              u_test_200 d q3.2 a1 0))
                    else
                      ga_nn a1 (ga_ck (q1.2 fS_which a1 0) 6 (ga_nn a1 ((c_u_object d q1.2 (q1.2 fS_other a1 0) a2 a3).bind fun q2 =>
                              ga_nn (q1.2 fS_which a1 0) (ga_ck (w32 ((w32 (24 * q1.1)) + q2.1)) 576 (u_test_284 d q2.2 a1 (q2.2 fW_related (q1.2 fS_which a1 0) (w32 ((w32 (24 * q1.1)) + q2.1)))))))))) :=
  ga_blk_eq am_G (am_run d) mt_u_test 30 0 [(0, 8, 0), (1, 10, a1), (2, 0, a2), (3, 0, a3)] [] σ
set_option maxRecDepth 100000 in
theorem e_u_test_284 (d : Nat) (σ : ga_S) (v1 v5 : Int) : u_test_284 d σ v1 v5 = ga_nn v1 (if v5 = (σ fS_not v1 0) then
      some (0, σ)
    else
      some (1, σ)) :=
  ga_blk_eq am_G (am_run d) mt_u_test 7 284 [(1, 10, v1), (5, 0, v5)] [] σ
set_option maxRecDepth 100000 in
theorem e_u_test_200 (d : Nat) (σ : ga_S) (v1 s0 : Int) : u_test_200 d σ v1 s0 = u_test_284 d σ v1 s0 :=
  ga_blk_eq am_G (am_run d) mt_u_test 2 200 [(1, 10, v1)] [(0, s0)] σ
set_option maxRecDepth 100000 in
theorem e_u_test_170 (d : Nat) (σ : ga_S) (v1 s0 : Int) : u_test_170 d σ v1 s0 = u_test_284 d σ v1 s0 :=
  ga_blk_eq am_G (am_run d) mt_u_test 2 170 [(1, 10, v1)] [(0, s0)] σ
set_option maxRecDepth 100000 in
theorem e_u_test_128 (d : Nat) (σ : ga_S) (v1 s0 : Int) : u_test_128 d σ v1 s0 = u_test_284 d σ v1 s0 :=
  ga_blk_eq am_G (am_run d) mt_u_test 2 128 [(1, 10, v1)] [(0, s0)] σ
set_option maxRecDepth 100000 in
theorem e_u_test_248 (d : Nat) (σ : ga_S) (v1 : Int) : u_test_248 d σ v1 = u_test_249 d σ v1 0 :=
  ga_blk_eq am_G (am_run d) mt_u_test 1 248 [(1, 10, v1)] [] σ
set_option maxRecDepth 100000 in
theorem e_u_test_249 (d : Nat) (σ : ga_S) (v1 s0 : Int) : u_test_249 d σ v1 s0 = u_test_284 d σ v1 s0 :=
  ga_blk_eq am_G (am_run d) mt_u_test 2 249 [(1, 10, v1)] [(0, s0)] σ
set_option maxRecDepth 100000 in
theorem e_u_test_97 (d : Nat) (σ : ga_S) (v1 : Int) : u_test_97 d σ v1 = u_test_98 d σ v1 0 :=
  ga_blk_eq am_G (am_run d) mt_u_test 1 97 [(1, 10, v1)] [] σ
set_option maxRecDepth 100000 in
theorem e_u_test_98 (d : Nat) (σ : ga_S) (v1 s0 : Int) : u_test_98 d σ v1 s0 = u_test_284 d σ v1 s0 :=
  ga_blk_eq am_G (am_run d) mt_u_test 2 98 [(1, 10, v1)] [(0, s0)] σ
set_option maxRecDepth 100000 in
theorem e_u_phrase (d : Nat) (σ : ga_S) (a1 a2 : Int) : c_u_phrase (d + 1) σ a1 a2 = ga_nn a1 ((c_u_object d σ (σ fS_thing a1 0) (-1) a2).bind fun q1 =>
      ga_nn a1 (if (q1.2 fS_what a1 0) = 0 then
          ga_nn a1 (if (q1.2 fS_not a1 0) = 0 then
              ga_nn a1 (u_phrase_106 d q1.2 q1.1 (q1.2 fS_which a1 0))
            else
              ga_nn a1 (ga_ck (q1.2 fS_which a1 0) 24 (u_phrase_106 d q1.2 q1.1 (q1.2 fW_contraries 0 (q1.2 fS_which a1 0)))))
        else
          if (q1.2 fS_what a1 0) = 1 then
            ga_ck q1.1 40 (ga_nn a1 (ga_nn q1.1 (ga_ck (q1.2 fS_which a1 0) 12 (ga_ck q1.1 40 (ga_nn a1 (ga_nn a1 (ga_nn q1.1 (ga_ck (q1.2 fS_which a1 0) 12 (ga_ck q1.1 40 (ga_nn a1 (ga_nn a1 (ga_nn q1.1 (ga_ck (q1.2 fS_which a1 0) 12 (some (0, (ga_up (ga_up (ga_up q1.2 fW_has q1.1 (q1.2 fS_which a1 0) 1) fW_numbers q1.1 (q1.2 fS_which a1 0) (q1.2 fS_value a1 0)) fW_lengths q1.1 (q1.2 fS_which a1 0) (q1.2 fS_length a1 0)))))))))))))))))
          else
            if (q1.2 fS_what a1 0) = 2 then
              some (0, (ga_up q1.2 fU_stops 0 0 1))
            else
              if (q1.2 fS_what a1 0) = 3 then
                ga_ck q1.1 40 (ga_nn a1 (ga_nn q1.1 (ga_ck (q1.2 fS_which a1 0) 12 (ga_ck q1.1 40 (ga_nn a1 (ga_nn a1 (ga_nn q1.1 (ga_ck (q1.2 fS_which a1 0) 12 (ga_ck q1.1 40 (ga_nn a1 (ga_nn a1 (ga_nn q1.1 (ga_ck (q1.2 fS_which a1 0) 12 (some (0, (ga_up (ga_up (ga_up q1.2 fW_has q1.1 (q1.2 fS_which a1 0) 1) fW_numbers q1.1 (q1.2 fS_which a1 0) (q1.2 fS_value a1 0)) fW_lengths q1.1 (q1.2 fS_which a1 0) (q1.2 fS_length a1 0)))))))))))))))))
              else
                if (q1.2 fS_what a1 0) = 4 then
                  ga_ck q1.1 40 (ga_nn a1 (ga_nn q1.1 (ga_ck (q1.2 fS_which a1 0) 12 (ga_ck q1.1 40 (ga_nn a1 (ga_nn a1 (ga_nn q1.1 (ga_ck (q1.2 fS_which a1 0) 12 (ga_ck q1.1 40 (ga_nn a1 (ga_nn a1 (ga_nn q1.1 (ga_ck (q1.2 fS_which a1 0) 12 (some (0, (ga_up (ga_up (ga_up q1.2 fW_has q1.1 (q1.2 fS_which a1 0) 1) fW_numbers q1.1 (q1.2 fS_which a1 0) (q1.2 fS_value a1 0)) fW_lengths q1.1 (q1.2 fS_which a1 0) (q1.2 fS_length a1 0)))))))))))))))))
                else
                  if (q1.2 fS_what a1 0) = 5 then
                    some (0, (ga_up q1.2 fU_stops 0 0 1))
                  else
                    if (q1.2 fS_what a1 0) = 6 then
                      some (0, (ga_up q1.2 fU_stops 0 0 1))
                    else
                      if (q1.2 fS_what a1 0) = 7 then
                        ga_nn a1 (ga_nn a1 ((c_u_object d q1.2 (q1.2 fS_other a1 0) (-1) a2).bind fun q8 =>
                              (c_w_relate d q8.2 (q1.2 fS_which a1 0) q1.1 q8.1).bind fun q9 =>
                                some (0, q9.2)))
                      else
                        if (q1.2 fS_what a1 0) = 8 then
                          (c_u_say d q1.2 a1 a2).bind fun q7 =>
                            some (0, q7.2)
                        else
                          if (q1.2 fS_what a1 0) = 9 then
                            ga_nn a1 ((c_u_object d q1.2 (q1.2 fS_other a1 0) (-1) a2).bind fun q5 =>
                                (c_u_move d q5.2 q1.1 q5.1).bind fun q6 =>
                                  some (0, q6.2))
                          else
                            if (q1.2 fS_what a1 0) = 10 then
                              ga_nn a1 ((c_w_number d q1.2 q1.1 (q1.2 fS_which a1 0)).bind fun q4 =>
                                  ga_nn a1 (if (q4.2 fS_what a1 0) = 10 then
                                      ga_nn a1 (u_phrase_282 d q4.2 a1 q1.1 (q4.2 fS_value a1 0) q4.1)
                                    else
                                      ga_nn a1 (u_phrase_282 d q4.2 a1 q1.1 (w32 (-(q4.2 fS_value a1 0))) q4.1)))
                            else
                              if (q1.2 fS_what a1 0) = 11 then
                                ga_nn a1 ((c_w_number d q1.2 q1.1 (q1.2 fS_which a1 0)).bind fun q3 =>
                                    ga_nn a1 (if (q3.2 fS_what a1 0) = 10 then
                                        ga_nn a1 (u_phrase_282 d q3.2 a1 q1.1 (q3.2 fS_value a1 0) q3.1)
                                      else
                                        ga_nn a1 (u_phrase_282 d q3.2 a1 q1.1 (w32 (-(q3.2 fS_value a1 0))) q3.1)))
                              else
                                if (q1.2 fS_what a1 0) = 12 then
                                  if (q1.2 fU_within 0 0) < 8 then
                                    ga_nn a1 (if (q1.2 fS_thing a1 0) = (-1) then
                                        u_phrase_383 d q1.2 a1 q1.1
                                      else
                                        ga_nn a1 (ga_ck (q1.2 fS_which a1 0) 12 ((c_w_isKind d q1.2 q1.1 (q1.2 fW_actionKinds 0 (q1.2 fS_which a1 0))).bind fun q2 =>
                                              if q2.1 = 0 then
                                                some (0, q2.2)
                                              else
                                                u_phrase_383 d q2.2 a1 q1.1)))
                                  else
                                    some (0, q1.2)
                                else
                                  some (0, (ga_up q1.2 fU_stops 0 0 1)))) :=
  ga_blk_eq am_G (am_run d) mt_u_phrase 40 0 [(0, 8, 0), (1, 10, a1), (2, 0, a2)] [] σ
set_option maxRecDepth 100000 in
theorem e_u_phrase_383 (d : Nat) (σ : ga_S) (v1 v3 : Int) : u_phrase_383 d σ v1 v3 = ga_nn v1 ((c_u_action d σ (σ fS_which v1 0) v3).bind fun q10 =>
      some (0, (ga_up q10.2 fU_stops 0 0 0))) :=
  ga_blk_eq am_G (am_run d) mt_u_phrase 11 383 [(0, 8, 0), (1, 10, v1), (3, 0, v3)] [] σ
set_option maxRecDepth 100000 in
theorem e_u_phrase_282 (d : Nat) (σ : ga_S) (v1 v3 s0 s1 : Int) : u_phrase_282 d σ v1 v3 s0 s1 = ga_ck v3 40 (ga_nn v1 (ga_nn v3 (ga_ck (σ fS_which v1 0) 12 (ga_ck v3 40 (ga_nn v1 (if 999999 < (w32 (s1 + s0)) then
                u_phrase_339 d (ga_up σ fW_has v3 (σ fS_which v1 0) 1) 999999 (σ fS_which v1 0) v3
              else
                if (w32 (s1 + s0)) < (-999999) then
                  u_phrase_339 d (ga_up σ fW_has v3 (σ fS_which v1 0) 1) (-999999) (σ fS_which v1 0) v3
                else
                  u_phrase_339 d (ga_up σ fW_has v3 (σ fS_which v1 0) 1) (w32 (s1 + s0)) (σ fS_which v1 0) v3)))))) :=
  ga_blk_eq am_G (am_run d) mt_u_phrase 26 282 [(0, 8, 0), (1, 10, v1), (3, 0, v3)] [(0, s0), (0, s1)] σ
set_option maxRecDepth 100000 in
theorem e_u_phrase_106 (d : Nat) (σ : ga_S) (v3 s0 : Int) : u_phrase_106 d σ v3 s0 = ga_ck v3 40 (ga_nn v3 (ga_ck s0 24 (ga_ck v3 40 (ga_ck s0 24 (ga_nn v3 (ga_ck (σ fW_contraries 0 s0) 24 (some (0, (ga_up (ga_up σ fW_told v3 s0 1) fW_told v3 (σ fW_contraries 0 s0) 0))))))))) :=
  ga_blk_eq am_G (am_run d) mt_u_phrase 23 106 [(0, 8, 0), (3, 0, v3)] [(0, s0)] σ
set_option maxRecDepth 100000 in
theorem e_u_phrase_339 (d : Nat) (σ : ga_S) (s0 s1 s2 : Int) : u_phrase_339 d σ s0 s1 s2 = ga_nn s2 (ga_ck s1 12 (some (0, (ga_up σ fW_numbers s2 s1 s0)))) :=
  ga_blk_eq am_G (am_run d) mt_u_phrase 3 339 [] [(0, s0), (0, s1), (32, s2)] σ
set_option maxRecDepth 100000 in
theorem e_u_move (d : Nat) (σ : ga_S) (a1 a2 : Int) : c_u_move (d + 1) σ a1 a2 = (c_w_isKind d σ a1 0).bind fun q1 =>
    if q1.1 = 0 then
      some (0, q1.2)
    else
      (c_w_isWithin d q1.2 a2 a1).bind fun q2 =>
        if q2.1 = 0 then
          (c_w_placeSort d q2.2 a2).bind fun q3 =>
            (c_w_put d q3.2 a1 q3.1 a2).bind fun q4 =>
              some (0, q4.2)
        else
          some (0, q2.2) :=
  ga_blk_eq am_G (am_run d) mt_u_move 22 0 [(0, 8, 0), (1, 0, a1), (2, 0, a2)] [] σ
set_option maxRecDepth 100000 in
theorem e_u_say (d : Nat) (σ : ga_S) (a1 a2 : Int) : c_u_say (d + 1) σ a1 a2 = ga_nn a1 (ga_nn a1 (ga_nn a1 (u_say_16 d σ a2 (σ fS_value a1 0) (w32 ((σ fS_value a1 0) + (σ fS_length a1 0)))))) :=
  ga_blk_eq am_G (am_run d) mt_u_say 9 0 [(0, 8, 0), (1, 10, a1), (2, 0, a2)] [] σ
set_option maxRecDepth 100000 in
theorem e_u_say_16 (d : Nat) (σ : ga_S) (v2 v3 v4 : Int) : u_say_16 d σ v2 v3 v4 = if v3 < v4 then
    ga_nn (0 + 1) (ga_nn (0 + 1) (ga_ck v3 5000 (if (σ fT_bytes (0 + 1) v3) = 91 then
            u_say_39 d σ v2 v3 v4 v3
          else
            ga_nn (0 + 1) (ga_nn (0 + 1) (ga_ck v3 5000 ((c_u_write d σ (σ fT_bytes (0 + 1) v3)).bind fun q2 =>
                    u_say_16 d q2.2 v2 (w32 (v3 + 1)) v4))))))
  else
    (c_u_write d σ 10).bind fun q1 =>
      some (0, q1.2) :=
  ga_blk_eq am_G (am_run d) mt_u_say 19 16 [(0, 8, 0), (2, 0, v2), (3, 0, v3), (4, 0, v4)] [] σ
set_option maxRecDepth 100000 in
theorem e_u_say_39 (d : Nat) (σ : ga_S) (v2 v3 v4 v5 : Int) : u_say_39 d σ v2 v3 v4 v5 = ga_nn (0 + 1) (ga_nn (0 + 1) (ga_ck v5 5000 (if (σ fT_bytes (0 + 1) v5) = 93 then
          (c_u_bracket d σ (w32 (v3 + 1)) v5 v2).bind fun q3 =>
            u_say_16 d q3.2 v2 (w32 (v5 + 1)) v4
        else
          u_say_39 d σ v2 v3 v4 (w32 (v5 + 1))))) :=
  ga_blk_eq am_G (am_run d) mt_u_say 19 39 [(0, 8, 0), (2, 0, v2), (3, 0, v3), (4, 0, v4), (5, 0, v5)] [] σ
set_option maxRecDepth 100000 in
theorem e_u_thingAt (d : Nat) (σ : ga_S) (a1 a2 a3 : Int) : c_u_thingAt (d + 1) σ a1 a2 a3 = ga_nn (0 + 1) (ga_nn (0 + 1) (ga_ck (w32 (a2 - 1)) 5002 (if (σ fT_kinds (0 + 1) (w32 (a2 - 1))) = 62 then
          some (a3, σ)
        else
          ga_nn (0 + 1) (ga_nn (0 + 1) (ga_ck a1 5002 (ga_nn (σ fT_kinds (0 + 1) a1) ((c_k_isArticle d σ (σ fT_kinds (0 + 1) a1)).bind fun q1 =>
                    if q1.1 = 0 then
                      u_thingAt_40 d q1.2 a2 0 a1
                    else
                      u_thingAt_40 d q1.2 a2 1 a1))))))) :=
  ga_blk_eq am_G (am_run d) mt_u_thingAt 19 0 [(0, 8, 0), (1, 0, a1), (2, 0, a2), (3, 0, a3)] [] σ
set_option maxRecDepth 100000 in
theorem e_u_thingAt_40 (d : Nat) (σ : ga_S) (v2 s0 s1 : Int) : u_thingAt_40 d σ v2 s0 s1 = (c_d_spellT d σ (0 + 1) (w32 (s1 + s0)) v2).bind fun q2 =>
    (c_d_of d q2.2 2).bind fun q3 =>
      some (q3.1, q3.2) :=
  ga_blk_eq am_G (am_run d) mt_u_thingAt 16 40 [(0, 8, 0), (2, 0, v2)] [(0, s0), (0, s1)] σ
set_option maxRecDepth 100000 in
theorem e_u_bracket (d : Nat) (σ : ga_S) (a1 a2 a3 : Int) : c_u_bracket (d + 1) σ a1 a2 a3 = ga_nn (0 + 1) ((c_t_inside d σ (0 + 1) a1 a2).bind fun q1 =>
      ga_nn (0 + 1) (u_bracket_23 d q1.2 a3 (w32 ((q1.2 fT_count (0 + 1) 0) - 1)) 0)) :=
  ga_blk_eq am_G (am_run d) mt_u_bracket 13 0 [(0, 8, 0), (1, 0, a1), (2, 0, a2), (3, 0, a3)] [] σ
set_option maxRecDepth 100000 in
theorem e_u_bracket_23 (d : Nat) (σ : ga_S) (v3 v4 v5 : Int) : u_bracket_23 d σ v3 v4 v5 = if v5 < v4 then
    ga_nn (0 + 1) (ga_nn (0 + 1) (ga_ck v5 5002 (if (σ fT_kinds (0 + 1) v5) = 16 then
            u_bracket_52 d σ v3 v4 v5
          else
            u_bracket_23 d σ v3 v4 (w32 (v5 + 1)))))
  else
    u_bracket_52 d σ v3 v4 v5 :=
  ga_blk_eq am_G (am_run d) mt_u_bracket 12 23 [(0, 8, 0), (3, 0, v3), (4, 0, v4), (5, 0, v5)] [] σ
set_option maxRecDepth 100000 in
theorem e_u_bracket_52 (d : Nat) (σ : ga_S) (v3 v4 v5 : Int) : u_bracket_52 d σ v3 v4 v5 = if v5 = v4 then
    (c_u_thingAt d σ 0 v4 v3).bind fun q6 =>
      (c_d_entry d q6.2 2 q6.1).bind fun q7 =>
        (c_u_writeWords d q7.2 q7.1).bind fun q8 =>
          some (0, q8.2)
  else
    (c_u_thingAt d σ (w32 (v5 + 1)) v4 v3).bind fun q2 =>
      (c_d_spellT d q2.2 (0 + 1) 1 v5).bind fun q3 =>
        (c_d_of d q3.2 5).bind fun q4 =>
          (c_u_writeProperty d q4.2 q2.1 q4.1).bind fun q5 =>
            some (0, q5.2) :=
  ga_blk_eq am_G (am_run d) mt_u_bracket 28 52 [(0, 8, 0), (3, 0, v3), (4, 0, v4), (5, 0, v5)] [] σ
set_option maxRecDepth 100000 in
theorem e_u_applies (d : Nat) (σ : ga_S) (a1 a2 a3 : Int) : c_u_applies (d + 1) σ a1 a2 a3 = ga_nn a1 (if (σ fQ_action a1 0) = a2 then
      ga_nn a1 (if (σ fQ_object a1 0) = (-1) then
          u_applies_24 d σ a1 a3
        else
          ga_nn a1 (if (σ fQ_object a1 0) = a3 then
              u_applies_24 d σ a1 a3
            else
              some (0, σ)))
    else
      some (0, σ)) :=
  ga_blk_eq am_G (am_run d) mt_u_applies 14 0 [(0, 8, 0), (1, 9, a1), (2, 0, a2), (3, 0, a3)] [] σ
set_option maxRecDepth 100000 in
theorem e_u_applies_24 (d : Nat) (σ : ga_S) (v1 v3 : Int) : u_applies_24 d σ v1 v3 = ga_nn v1 (if (σ fQ_kind v1 0) = (-1) then
      u_applies_49 d σ v1 v3
    else
      ga_nn v1 ((c_w_isKind d σ v3 (σ fQ_kind v1 0)).bind fun q1 =>
          if q1.1 = 0 then
            some (0, q1.2)
          else
            u_applies_49 d q1.2 v1 v3)) :=
  ga_blk_eq am_G (am_run d) mt_u_applies 13 24 [(0, 8, 0), (1, 9, v1), (3, 0, v3)] [] σ
set_option maxRecDepth 100000 in
theorem e_u_applies_49 (d : Nat) (σ : ga_S) (v1 v3 : Int) : u_applies_49 d σ v1 v3 = u_applies_52 d σ v1 v3 0 :=
  ga_blk_eq am_G (am_run d) mt_u_applies 2 49 [(0, 8, 0), (1, 9, v1), (3, 0, v3)] [] σ
set_option maxRecDepth 100000 in
theorem e_u_applies_52 (d : Nat) (σ : ga_S) (v1 v3 v4 : Int) : u_applies_52 d σ v1 v3 v4 = ga_nn v1 (if v4 < (σ fQ_adjectives v1 0) then
      ga_nn v1 (ga_nn v1 (ga_ck v4 8 (if (σ fQ_values v1 v4) = (-1) then
              u_applies_77 d σ v1 v3 v4 0
            else
              u_applies_77 d σ v1 v3 v4 1)))
    else
      (c_u_tests d σ v1 (-1) v3).bind fun q2 =>
        ga_01 q2.1 (some (q2.1, q2.2))) :=
  ga_blk_eq am_G (am_run d) mt_u_applies 12 52 [(0, 8, 0), (1, 9, v1), (3, 0, v3), (4, 0, v4)] [] σ
set_option maxRecDepth 100000 in
theorem e_u_applies_77 (d : Nat) (σ : ga_S) (v1 v3 v4 s0 : Int) : u_applies_77 d σ v1 v3 v4 s0 = if s0 = 0 then
    ga_nn v1 (ga_nn v1 (ga_ck v4 8 ((c_u_holds d σ v3 (σ fQ_which v1 v4)).bind fun q3 =>
            if q3.1 = 0 then
              some (0, q3.2)
            else
              u_applies_129 d q3.2 v1 v3 v4)))
  else
    ga_nn v1 (ga_nn v1 (ga_ck v4 8 ((c_w_number d σ v3 (σ fQ_which v1 v4)).bind fun q4 =>
            ga_nn v1 (ga_nn v1 (ga_ck v4 8 (if q4.1 = (q4.2 fQ_values v1 v4) then
                    u_applies_129 d q4.2 v1 v3 v4
                  else
                    some (0, q4.2))))))) :=
  ga_blk_eq am_G (am_run d) mt_u_applies 19 77 [(0, 8, 0), (1, 9, v1), (3, 0, v3), (4, 0, v4)] [(0, s0)] σ
set_option maxRecDepth 100000 in
theorem e_u_applies_129 (d : Nat) (σ : ga_S) (v1 v3 v4 : Int) : u_applies_129 d σ v1 v3 v4 = u_applies_52 d σ v1 v3 (w32 (v4 + 1)) :=
  ga_blk_eq am_G (am_run d) mt_u_applies 2 129 [(0, 8, 0), (1, 9, v1), (3, 0, v3), (4, 0, v4)] [] σ
set_option maxRecDepth 100000 in
theorem e_u_follow (d : Nat) (σ : ga_S) (a1 a2 : Int) : c_u_follow (d + 1) σ a1 a2 = u_follow_2 d σ a1 a2 0 :=
  ga_blk_eq am_G (am_run d) mt_u_follow 2 0 [(0, 8, 0), (1, 9, a1), (2, 0, a2)] [] σ
set_option maxRecDepth 100000 in
theorem e_u_follow_2 (d : Nat) (σ : ga_S) (v1 v2 v3 : Int) : u_follow_2 d σ v1 v2 v3 = ga_nn v1 (if v3 < (σ fQ_phrases v1 0) then
      if (σ fU_stops 0 0) = 0 then
        if (σ fU_ends 0 0) = 0 then
          if (σ fU_phrases 0 0) = 300 then
            u_follow_63 d (ga_up σ fU_ends 0 0 1) v1 v2 v3
          else
            ga_nn v1 (ga_nn v1 (ga_ck v3 8 ((c_u_phrase d (ga_up σ fU_phrases 0 0 (w32 ((σ fU_phrases 0 0) + 1))) ((14 * v1 + v3) + 6) v2).bind fun q1 =>
                    u_follow_63 d q1.2 v1 v2 v3)))
        else
          u_follow_69 d σ
      else
        u_follow_69 d σ
    else
      u_follow_69 d σ) :=
  ga_blk_eq am_G (am_run d) mt_u_follow 27 2 [(0, 8, 0), (1, 9, v1), (2, 0, v2), (3, 0, v3)] [] σ
set_option maxRecDepth 100000 in
theorem e_u_follow_69 (d : Nat) (σ : ga_S) : u_follow_69 d σ = if (σ fU_stops 0 0) = 0 then
    u_follow_81 d σ 1
  else
    u_follow_81 d σ 0 :=
  ga_blk_eq am_G (am_run d) mt_u_follow 5 69 [(0, 8, 0)] [] σ
set_option maxRecDepth 100000 in
theorem e_u_follow_63 (d : Nat) (σ : ga_S) (v1 v2 v3 : Int) : u_follow_63 d σ v1 v2 v3 = u_follow_2 d σ v1 v2 (w32 (v3 + 1)) :=
  ga_blk_eq am_G (am_run d) mt_u_follow 2 63 [(0, 8, 0), (1, 9, v1), (2, 0, v2), (3, 0, v3)] [] σ
set_option maxRecDepth 100000 in
theorem e_u_follow_81 (d : Nat) (σ : ga_S) (s0 : Int) : u_follow_81 d σ s0 = ga_01 s0 (some (s0, (ga_up σ fU_stops 0 0 0))) :=
  ga_blk_eq am_G (am_run d) mt_u_follow 6 81 [(0, 8, 0)] [(0, s0)] σ
set_option maxRecDepth 100000 in
theorem e_u_narrow (d : Nat) (σ : ga_S) (a1 : Int) : c_u_narrow (d + 1) σ a1 = ga_nn a1 (if (σ fQ_object a1 0) = (-1) then
      ga_nn a1 (if (σ fQ_kind a1 0) = (-1) then
          some (0, σ)
        else
          ga_nn a1 ((c_w_depth d σ (σ fQ_kind a1 0)).bind fun q1 =>
              ga_nn a1 (some ((w32 ((w32 (1000 + (w32 (20 * q1.1)))) + (q1.2 fQ_adjectives a1 0))), q1.2))))
    else
      some (100000, σ)) :=
  ga_blk_eq am_G (am_run d) mt_u_narrow 22 0 [(0, 8, 0), (1, 9, a1)] [] σ
set_option maxRecDepth 100000 in
theorem e_u_isAhead (d : Nat) (σ : ga_S) (a1 a2 : Int) : c_u_isAhead (d + 1) σ a1 a2 = ga_ck a1 24 (ga_ck a2 24 ((c_u_narrow d σ (σ fW_rule 0 a1)).bind fun q1 =>
        (c_u_narrow d q1.2 (σ fW_rule 0 a2)).bind fun q2 =>
          if q1.1 = q2.1 then
            ga_nn (σ fW_rule 0 a1) (ga_nn (σ fW_rule 0 a2) (if (q2.2 fQ_tests (σ fW_rule 0 a1) 0) = (q2.2 fQ_tests (σ fW_rule 0 a2) 0) then
                  if a1 < a2 then
                    some (1, q2.2)
                  else
                    some (0, q2.2)
                else
                  ga_nn (σ fW_rule 0 a1) (ga_nn (σ fW_rule 0 a2) (if (q2.2 fQ_tests (σ fW_rule 0 a2) 0) < (q2.2 fQ_tests (σ fW_rule 0 a1) 0) then
                        some (1, q2.2)
                      else
                        some (0, q2.2)))))
          else
            if q2.1 < q1.1 then
              some (1, q2.2)
            else
              some (0, q2.2))) :=
  ga_blk_eq am_G (am_run d) mt_u_isAhead 36 0 [(0, 8, 0), (1, 0, a1), (2, 0, a2)] [] σ
set_option maxRecDepth 100000 in
theorem e_u_placeOf (d : Nat) (σ : ga_S) (a1 : Int) : c_u_placeOf (d + 1) σ a1 = u_placeOf_4 d σ a1 0 0 :=
  ga_blk_eq am_G (am_run d) mt_u_placeOf 4 0 [(0, 8, 0), (1, 0, a1)] [] σ
set_option maxRecDepth 100000 in
theorem e_u_placeOf_4 (d : Nat) (σ : ga_S) (v1 v2 v3 : Int) : u_placeOf_4 d σ v1 v2 v3 = if v3 < (σ fW_rules 0 0) then
    ga_ck v3 24 (ga_nn (σ fW_rule 0 v3) (ga_ck v1 24 (ga_nn (σ fW_rule 0 v1) (if (σ fQ_sort (σ fW_rule 0 v3) 0) = (σ fQ_sort (σ fW_rule 0 v1) 0) then
              if v3 = v1 then
                u_placeOf_61 d σ v1 v3 v2
              else
                (c_u_isAhead d σ v3 v1).bind fun q1 =>
                  if q1.1 = 0 then
                    u_placeOf_61 d q1.2 v1 v3 v2
                  else
                    u_placeOf_62 d q1.2 v1 v3 1 v2
            else
              u_placeOf_61 d σ v1 v3 v2))))
  else
    some (v2, σ) :=
  ga_blk_eq am_G (am_run d) mt_u_placeOf 29 4 [(0, 8, 0), (1, 0, v1), (2, 0, v2), (3, 0, v3)] [] σ
set_option maxRecDepth 100000 in
theorem e_u_placeOf_61 (d : Nat) (σ : ga_S) (v1 v3 s0 : Int) : u_placeOf_61 d σ v1 v3 s0 = u_placeOf_62 d σ v1 v3 0 s0 :=
  ga_blk_eq am_G (am_run d) mt_u_placeOf 1 61 [(0, 8, 0), (1, 0, v1), (3, 0, v3)] [(0, s0)] σ
set_option maxRecDepth 100000 in
theorem e_u_placeOf_62 (d : Nat) (σ : ga_S) (v1 v3 s0 s1 : Int) : u_placeOf_62 d σ v1 v3 s0 s1 = u_placeOf_4 d σ v1 (w32 (s1 + s0)) (w32 (v3 + 1)) :=
  ga_blk_eq am_G (am_run d) mt_u_placeOf 4 62 [(0, 8, 0), (1, 0, v1), (3, 0, v3)] [(0, s0), (0, s1)] σ
set_option maxRecDepth 100000 in
theorem e_u_arrange (d : Nat) (σ : ga_S) : c_u_arrange (d + 1) σ = u_arrange_2 d σ 0 :=
  ga_blk_eq am_G (am_run d) mt_u_arrange 2 0 [(0, 8, 0)] [] σ
set_option maxRecDepth 100000 in
theorem e_u_arrange_2 (d : Nat) (σ : ga_S) (v1 : Int) : u_arrange_2 d σ v1 = if v1 < 4 then
    ga_ck v1 4 (u_arrange_2 d (ga_up σ fU_ordered 0 v1 0) (w32 (v1 + 1)))
  else
    u_arrange_22 d σ 0 :=
  ga_blk_eq am_G (am_run d) mt_u_arrange 10 2 [(0, 8, 0), (1, 0, v1)] [] σ
set_option maxRecDepth 100000 in
theorem e_u_arrange_22 (d : Nat) (σ : ga_S) (v1 : Int) : u_arrange_22 d σ v1 = if v1 < (σ fW_rules 0 0) then
    ga_ck v1 24 (ga_nn (σ fW_rule 0 v1) (ga_ck (σ fQ_sort (σ fW_rule 0 v1) 0) 4 ((c_u_placeOf d σ v1).bind fun q1 =>
            ga_nn (σ fQ_sort (σ fW_rule 0 v1) 0) (ga_ck q1.1 24 (ga_ck v1 24 (ga_nn (q1.2 fW_rule 0 v1) (ga_ck (q1.2 fQ_sort (q1.2 fW_rule 0 v1) 0) 4 (ga_ck (q1.2 fQ_sort (q1.2 fW_rule 0 v1) 0) 4 (u_arrange_22 d (ga_up (ga_up q1.2 fU_order (σ fQ_sort (σ fW_rule 0 v1) 0) q1.1 v1) fU_ordered 0 (q1.2 fQ_sort (q1.2 fW_rule 0 v1) 0) (w32 ((q1.2 fU_ordered 0 (q1.2 fQ_sort (q1.2 fW_rule 0 v1) 0)) + 1))) (w32 (v1 + 1)))))))))))
  else
    some (0, σ) :=
  ga_blk_eq am_G (am_run d) mt_u_arrange 34 22 [(0, 8, 0), (1, 0, v1)] [] σ
set_option maxRecDepth 100000 in
theorem e_u_action (d : Nat) (σ : ga_S) (a1 a2 : Int) : c_u_action (d + 1) σ a1 a2 = (c_u_act d (ga_up σ fU_within 0 0 (w32 ((σ fU_within 0 0) + 1))) a1 a2).bind fun q1 =>
    some (q1.1, (ga_up q1.2 fU_within 0 0 (w32 ((q1.2 fU_within 0 0) - 1)))) :=
  ga_blk_eq am_G (am_run d) mt_u_action 19 0 [(0, 8, 0), (1, 0, a1), (2, 0, a2)] [] σ
set_option maxRecDepth 100000 in
theorem e_u_act (d : Nat) (σ : ga_S) (a1 a2 : Int) : c_u_act (d + 1) σ a1 a2 = u_act_2 d σ a1 a2 0 :=
  ga_blk_eq am_G (am_run d) mt_u_act 2 0 [(0, 8, 0), (1, 0, a1), (2, 0, a2)] [] σ
set_option maxRecDepth 100000 in
theorem e_u_act_2 (d : Nat) (σ : ga_S) (v1 v2 v3 : Int) : u_act_2 d σ v1 v2 v3 = if v3 < (σ fU_ordered 0 0) then
    if (σ fU_ends 0 0) = 0 then
      ga_ck v3 24 (ga_ck (σ fU_order 0 v3) 24 ((c_u_applies d σ (σ fW_rule 0 (σ fU_order 0 v3)) v1 v2).bind fun q1 =>
            if q1.1 = 0 then
              u_act_60 d q1.2 v1 v2 v3
            else
              (c_u_follow d q1.2 (σ fW_rule 0 (σ fU_order 0 v3)) v2).bind fun q2 =>
                if q2.1 = 0 then
                  some (1, q2.2)
                else
                  u_act_60 d q2.2 v1 v2 v3))
    else
      u_act_66 d σ v1 v2
  else
    u_act_66 d σ v1 v2 :=
  ga_blk_eq am_G (am_run d) mt_u_act 33 2 [(0, 8, 0), (1, 0, v1), (2, 0, v2), (3, 0, v3)] [] σ
set_option maxRecDepth 100000 in
theorem e_u_act_66 (d : Nat) (σ : ga_S) (v1 v2 : Int) : u_act_66 d σ v1 v2 = u_act_68 d σ v1 v2 0 :=
  ga_blk_eq am_G (am_run d) mt_u_act 2 66 [(0, 8, 0), (1, 0, v1), (2, 0, v2)] [] σ
set_option maxRecDepth 100000 in
theorem e_u_act_60 (d : Nat) (σ : ga_S) (v1 v2 v3 : Int) : u_act_60 d σ v1 v2 v3 = u_act_2 d σ v1 v2 (w32 (v3 + 1)) :=
  ga_blk_eq am_G (am_run d) mt_u_act 2 60 [(0, 8, 0), (1, 0, v1), (2, 0, v2), (3, 0, v3)] [] σ
set_option maxRecDepth 100000 in
theorem e_u_act_68 (d : Nat) (σ : ga_S) (v1 v2 v3 : Int) : u_act_68 d σ v1 v2 v3 = if v3 < (σ fU_ordered 0 1) then
    if (σ fU_ends 0 0) = 0 then
      ga_ck v3 24 (ga_ck (σ fU_order 1 v3) 24 ((c_u_applies d σ (σ fW_rule 0 (σ fU_order 1 v3)) v1 v2).bind fun q3 =>
            if q3.1 = 0 then
              u_act_68 d q3.2 v1 v2 (w32 (v3 + 1))
            else
              (c_u_follow d q3.2 (σ fW_rule 0 (σ fU_order 1 v3)) v2).bind fun q4 =>
                some (2, q4.2)))
    else
      u_act_130 d σ v1 v2
  else
    u_act_130 d σ v1 v2 :=
  ga_blk_eq am_G (am_run d) mt_u_act 33 68 [(0, 8, 0), (1, 0, v1), (2, 0, v2), (3, 0, v3)] [] σ
set_option maxRecDepth 100000 in
theorem e_u_act_130 (d : Nat) (σ : ga_S) (v1 v2 : Int) : u_act_130 d σ v1 v2 = if (σ fU_ends 0 0) = 0 then
    (c_u_isDone d σ v1 v2).bind fun q5 =>
      if q5.1 = 0 then
        some (3, q5.2)
      else
        u_act_148 d q5.2 v1 v2
  else
    u_act_148 d σ v1 v2 :=
  ga_blk_eq am_G (am_run d) mt_u_act 10 130 [(0, 8, 0), (1, 0, v1), (2, 0, v2)] [] σ
set_option maxRecDepth 100000 in
theorem e_u_act_148 (d : Nat) (σ : ga_S) (v1 v2 : Int) : u_act_148 d σ v1 v2 = u_act_150 d σ v1 v2 0 :=
  ga_blk_eq am_G (am_run d) mt_u_act 2 148 [(0, 8, 0), (1, 0, v1), (2, 0, v2)] [] σ
set_option maxRecDepth 100000 in
theorem e_u_act_150 (d : Nat) (σ : ga_S) (v1 v2 v3 : Int) : u_act_150 d σ v1 v2 v3 = if v3 < (σ fU_ordered 0 2) then
    if (σ fU_ends 0 0) = 0 then
      ga_ck v3 24 (ga_ck (σ fU_order 2 v3) 24 ((c_u_applies d σ (σ fW_rule 0 (σ fU_order 2 v3)) v1 v2).bind fun q6 =>
            if q6.1 = 0 then
              u_act_208 d q6.2 v1 v2 v3
            else
              (c_u_follow d q6.2 (σ fW_rule 0 (σ fU_order 2 v3)) v2).bind fun q7 =>
                if q7.1 = 0 then
                  some (4, q7.2)
                else
                  u_act_208 d q7.2 v1 v2 v3))
    else
      some (0, σ)
  else
    some (0, σ) :=
  ga_blk_eq am_G (am_run d) mt_u_act 33 150 [(0, 8, 0), (1, 0, v1), (2, 0, v2), (3, 0, v3)] [] σ
set_option maxRecDepth 100000 in
theorem e_u_act_208 (d : Nat) (σ : ga_S) (v1 v2 v3 : Int) : u_act_208 d σ v1 v2 v3 = u_act_150 d σ v1 v2 (w32 (v3 + 1)) :=
  ga_blk_eq am_G (am_run d) mt_u_act 2 208 [(0, 8, 0), (1, 0, v1), (2, 0, v2), (3, 0, v3)] [] σ
set_option maxRecDepth 100000 in
theorem e_u_isDone (d : Nat) (σ : ga_S) (a1 a2 : Int) : c_u_isDone (d + 1) σ a1 a2 = if a1 = 1 then
    if a2 = 0 then
      some (0, σ)
    else
      (c_w_isTold d σ a2 1).bind fun q7 =>
        if q7.1 = 0 then
          some (0, q7.2)
        else
          (c_w_isBy d q7.2 a2 0).bind fun q8 =>
            if q8.1 = 0 then
              (c_w_isWithin d q8.2 0 a2).bind fun q9 =>
                if q9.1 = 0 then
                  (c_w_put d q9.2 a2 4 0).bind fun q10 =>
                    some (1, q10.2)
                else
                  some (0, q9.2)
            else
              some (0, q8.2)
  else
    if a1 = 2 then
      (c_w_isBy d σ a2 0).bind fun q5 =>
        if q5.1 = 0 then
          some (0, q5.2)
        else
          (c_w_put d q5.2 a2 (q5.2 fW_placed 0 0) (q5.2 fW_placeAt 0 0)).bind fun q6 =>
            some (1, q6.2)
    else
      if a1 = 3 then
        (c_u_writeProperty d σ a2 0).bind fun q3 =>
          (c_u_write d q3.2 10).bind fun q4 =>
            some (1, q4.2)
      else
        if a1 = 4 then
          if (σ fW_placed 0 0) = 1 then
            (c_w_isKind d σ (σ fW_placeAt 0 0) 1).bind fun q1 =>
              if q1.1 = 0 then
                u_isDone_196 d q1.2 0
              else
                (c_w_leads d q1.2 (q1.2 fW_placeAt 0 0) a2).bind fun q2 =>
                  u_isDone_197 d q2.2 0 q2.1
          else
            u_isDone_196 d σ 0
        else
          some (1, σ) :=
  ga_blk_eq am_G (am_run d) mt_u_isDone 33 0 [(0, 8, 0), (1, 0, a1), (2, 0, a2)] [] σ
set_option maxRecDepth 100000 in
theorem e_u_isDone_196 (d : Nat) (σ : ga_S) (v3 : Int) : u_isDone_196 d σ v3 = u_isDone_197 d σ v3 (-1) :=
  ga_blk_eq am_G (am_run d) mt_u_isDone 1 196 [(0, 8, 0), (3, 0, v3)] [] σ
set_option maxRecDepth 100000 in
theorem e_u_isDone_197 (d : Nat) (σ : ga_S) (v3 s0 : Int) : u_isDone_197 d σ v3 s0 = if s0 = (-1) then
    some (0, σ)
  else
    (c_w_put d σ v3 1 s0).bind fun q11 =>
      some (1, q11.2) :=
  ga_blk_eq am_G (am_run d) mt_u_isDone 12 197 [(0, 8, 0), (3, 0, v3)] [(0, s0)] σ
set_option maxRecDepth 100000 in
theorem e_u_turn (d : Nat) (σ : ga_S) (a1 a2 : Int) : c_u_turn (d + 1) σ a1 a2 = (c_u_action d (ga_up (ga_up (ga_up (ga_up σ fU_phrases 0 0 0) fU_ends 0 0 0) fU_stops 0 0 0) fU_within 0 0 0) a1 a2).bind fun q1 =>
    u_turn_30 d q1.2 q1.1 0 :=
  ga_blk_eq am_G (am_run d) mt_u_turn 19 0 [(0, 8, 0), (1, 0, a1), (2, 0, a2)] [] σ
set_option maxRecDepth 100000 in
theorem e_u_turn_30 (d : Nat) (σ : ga_S) (v3 v4 : Int) : u_turn_30 d σ v3 v4 = if v4 < (σ fU_ordered 0 3) then
    if (σ fU_ends 0 0) = 0 then
      ga_ck v4 24 (ga_ck (σ fU_order 3 v4) 24 ((c_u_tests d σ (σ fW_rule 0 (σ fU_order 3 v4)) (-1) (-1)).bind fun q2 =>
            if q2.1 = 0 then
              u_turn_86 d q2.2 v3 v4
            else
              (c_u_follow d q2.2 (σ fW_rule 0 (σ fU_order 3 v4)) (-1)).bind fun q3 =>
                u_turn_86 d q3.2 v3 v4))
    else
      u_turn_92 d σ v3
  else
    u_turn_92 d σ v3 :=
  ga_blk_eq am_G (am_run d) mt_u_turn 31 30 [(0, 8, 0), (3, 0, v3), (4, 0, v4)] [] σ
set_option maxRecDepth 100000 in
theorem e_u_turn_92 (d : Nat) (σ : ga_S) (v3 : Int) : u_turn_92 d σ v3 = if (σ fU_ends 0 0) = 0 then
    some (v3, σ)
  else
    some (5, σ) :=
  ga_blk_eq am_G (am_run d) mt_u_turn 6 92 [(0, 8, 0), (3, 0, v3)] [] σ
set_option maxRecDepth 100000 in
theorem e_u_turn_86 (d : Nat) (σ : ga_S) (v3 v4 : Int) : u_turn_86 d σ v3 v4 = u_turn_30 d σ v3 (w32 (v4 + 1)) :=
  ga_blk_eq am_G (am_run d) mt_u_turn 2 86 [(0, 8, 0), (3, 0, v3), (4, 0, v4)] [] σ
set_option maxRecDepth 100000 in
theorem e_q_clear (d : Nat) (σ : ga_S) (a0 : Int) : c_q_clear (d + 1) σ a0 = ga_nn a0 (ga_nn a0 (ga_nn a0 (ga_nn a0 (ga_nn a0 (ga_nn a0 (ga_nn a0 (some (0, (ga_up (ga_up (ga_up (ga_up (ga_up (ga_up (ga_up σ fQ_sort a0 0 (-1)) fQ_action a0 0 (-1)) fQ_object a0 0 (-1)) fQ_kind a0 0 (-1)) fQ_adjectives a0 0 0) fQ_tests a0 0 0) fQ_phrases a0 0 0))))))))) :=
  ga_blk_eq am_G (am_run d) mt_q_clear 22 0 [(0, 9, a0)] [] σ
set_option maxRecDepth 100000 in
theorem e_k_isArticle (d : Nat) (σ : ga_S) (a0 : Int) : c_k_isArticle (d + 1) σ a0 = if a0 = 9 then
    k_isArticle_28 d σ
  else
    if a0 = 10 then
      k_isArticle_28 d σ
    else
      if a0 = 11 then
        k_isArticle_28 d σ
      else
        if a0 = 12 then
          k_isArticle_28 d σ
        else
          some (0, σ) :=
  ga_blk_eq am_G (am_run d) mt_k_isArticle 14 0 [(0, 11, a0)] [] σ
set_option maxRecDepth 100000 in
theorem e_k_isArticle_28 (d : Nat) (σ : ga_S) : k_isArticle_28 d σ = some (1, σ) :=
  ga_blk_eq am_G (am_run d) mt_k_isArticle 3 28 [] [] σ

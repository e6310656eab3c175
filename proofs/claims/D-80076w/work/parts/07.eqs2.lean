set_option maxRecDepth 100000 in
theorem e_d_entry (d : Nat) (σ : ga_S) (a1 a2 : Int) : c_d_entry (d + 1) σ a1 a2 = d_entry_2 d σ a1 a2 0 :=
  ga_blk_eq am_G (am_run d) mt_d_entry 2 0 [(0, 5, 0), (1, 0, a1), (2, 0, a2)] [] σ
set_option maxRecDepth 100000 in
theorem e_d_entry_2 (d : Nat) (σ : ga_S) (v1 v2 v3 : Int) : d_entry_2 d σ v1 v2 v3 = if v3 < (σ fD_count 0 0) then
    ga_ck v3 640 (if (σ fD_sorts 0 v3) = v1 then
        ga_ck v3 640 (if (σ fD_numbers 0 v3) = v2 then
            some (v3, σ)
          else
            d_entry_32 d σ v1 v2 v3)
      else
        d_entry_32 d σ v1 v2 v3)
  else
    some ((-1), σ) :=
  ga_blk_eq am_G (am_run d) mt_d_entry 18 2 [(0, 5, 0), (1, 0, v1), (2, 0, v2), (3, 0, v3)] [] σ
set_option maxRecDepth 100000 in
theorem e_d_entry_32 (d : Nat) (σ : ga_S) (v1 v2 v3 : Int) : d_entry_32 d σ v1 v2 v3 = d_entry_2 d σ v1 v2 (w32 (v3 + 1)) :=
  ga_blk_eq am_G (am_run d) mt_d_entry 2 32 [(0, 5, 0), (1, 0, v1), (2, 0, v2), (3, 0, v3)] [] σ
set_option maxRecDepth 100000 in
theorem e_d_forget (d : Nat) (σ : ga_S) (a1 a2 : Int) : c_d_forget (d + 1) σ a1 a2 = (c_d_entry d σ a1 a2).bind fun q1 =>
    if q1.1 = (-1) then
      some (0, q1.2)
    else
      ga_ck q1.1 640 (some (0, (ga_up q1.2 fD_sorts 0 q1.1 (-1)))) :=
  ga_blk_eq am_G (am_run d) mt_d_forget 14 0 [(0, 5, 0), (1, 0, a1), (2, 0, a2)] [] σ
set_option maxRecDepth 100000 in
theorem e_t_isLetter (d : Nat) (σ : ga_S) (a0 : Int) : c_t_isLetter (d + 1) σ a0 = if a0 < 97 then
    some (0, σ)
  else
    if 122 < a0 then
      some (0, σ)
    else
      some (1, σ) :=
  ga_blk_eq am_G (am_run d) mt_t_isLetter 9 0 [(0, 0, a0)] [] σ
set_option maxRecDepth 100000 in
theorem e_t_isFigure (d : Nat) (σ : ga_S) (a0 : Int) : c_t_isFigure (d + 1) σ a0 = if a0 < 48 then
    some (0, σ)
  else
    if 57 < a0 then
      some (0, σ)
    else
      some (1, σ) :=
  ga_blk_eq am_G (am_run d) mt_t_isFigure 9 0 [(0, 0, a0)] [] σ
set_option maxRecDepth 100000 in
theorem e_t_low (d : Nat) (σ : ga_S) (a0 a1 : Int) : c_t_low (d + 1) σ a0 a1 = ga_nn a0 (if a1 < (σ fT_size a0 0) then
      ga_nn a0 (ga_nn a0 (ga_ck a1 5000 (t_low_18 d σ (σ fT_bytes a0 a1))))
    else
      t_low_18 d σ 0) :=
  ga_blk_eq am_G (am_run d) mt_t_low 9 0 [(0, 6, a0), (1, 0, a1)] [] σ
set_option maxRecDepth 100000 in
theorem e_t_low_18 (d : Nat) (σ : ga_S) (s0 : Int) : t_low_18 d σ s0 = if s0 < 65 then
    some (s0, σ)
  else
    if 90 < s0 then
      some (s0, σ)
    else
      some ((w32 (s0 + 32)), σ) :=
  ga_blk_eq am_G (am_run d) mt_t_low 12 18 [] [(0, s0)] σ
set_option maxRecDepth 100000 in
theorem e_t_sentence (d : Nat) (σ : ga_S) (a0 : Int) : c_t_sentence (d + 1) σ a0 = ga_nn a0 (ga_nn a0 (t_sentence_10 d (ga_up (ga_up σ fT_count a0 0 0) fT_wrong a0 0 (-1)) a0)) :=
  ga_blk_eq am_G (am_run d) mt_t_sentence 6 0 [(0, 6, a0)] [] σ
set_option maxRecDepth 100000 in
theorem e_t_sentence_10 (d : Nat) (σ : ga_S) (v0 : Int) : t_sentence_10 d σ v0 = ga_nn v0 ((c_t_next d σ v0).bind fun q1 =>
      ga_nn v0 (ga_nn v0 (ga_nn v0 (ga_ck (q1.2 fT_count v0 0) 5002 (ga_nn v0 (ga_nn v0 (if q1.1 = 2 then
                    ga_nn v0 (if ((ga_up (ga_up q1.2 fT_kinds v0 (q1.2 fT_count v0 0) q1.1) fT_count v0 0 (w32 ((q1.2 fT_count v0 0) + 1))) fT_count v0 0) = 1 then
                        ga_nn v0 ((c_t_textAlone d (ga_up (ga_up q1.2 fT_kinds v0 (q1.2 fT_count v0 0) q1.1) fT_count v0 0 (w32 ((q1.2 fT_count v0 0) + 1))) v0).bind fun q2 =>
                            t_sentence_55 d q2.2 v0 q2.1)
                      else
                        t_sentence_55 d (ga_up (ga_up q1.2 fT_kinds v0 (q1.2 fT_count v0 0) q1.1) fT_count v0 0 (w32 ((q1.2 fT_count v0 0) + 1))) v0 q1.1)
                  else
                    t_sentence_55 d (ga_up (ga_up q1.2 fT_kinds v0 (q1.2 fT_count v0 0) q1.1) fT_count v0 0 (w32 ((q1.2 fT_count v0 0) + 1))) v0 q1.1))))))) :=
  ga_blk_eq am_G (am_run d) mt_t_sentence 25 10 [(0, 6, v0)] [] σ
set_option maxRecDepth 100000 in
theorem e_t_sentence_55 (d : Nat) (σ : ga_S) (v0 v1 : Int) : t_sentence_55 d σ v0 v1 = if v1 = 3 then
    some (0, σ)
  else
    if v1 = 8 then
      some (0, σ)
    else
      if v1 = 7 then
        some (0, σ)
      else
        t_sentence_10 d σ v0 :=
  ga_blk_eq am_G (am_run d) mt_t_sentence 10 55 [(0, 6, v0), (1, 11, v1)] [] σ
set_option maxRecDepth 100000 in
theorem e_t_textAlone (d : Nat) (σ : ga_S) (a0 : Int) : c_t_textAlone (d + 1) σ a0 = ga_nn a0 (ga_nn a0 ((c_t_next d σ a0).bind fun q1 =>
        if q1.1 = 3 then
          t_textAlone_40 d q1.2 a0
        else
          ga_nn a0 (ga_nn a0 (ga_nn a0 (ga_nn a0 (ga_nn a0 (ga_nn a0 (ga_ck (q1.2 fT_count a0 0) 5002 (t_textAlone_40 d (ga_up (ga_up (ga_up q1.2 fT_at a0 0 (σ fT_at a0 0)) fT_wrong a0 0 (-1)) fT_places a0 (q1.2 fT_count a0 0) ((ga_up q1.2 fT_at a0 0 (σ fT_at a0 0)) fT_at a0 0)) a0))))))))) :=
  ga_blk_eq am_G (am_run d) mt_t_textAlone 22 0 [(0, 6, a0)] [] σ
set_option maxRecDepth 100000 in
theorem e_t_textAlone_40 (d : Nat) (σ : ga_S) (v0 : Int) : t_textAlone_40 d σ v0 = ga_nn v0 (ga_nn v0 (ga_nn v0 (ga_nn v0 (ga_ck (σ fT_count v0 0) 5002 (some (3, (ga_up (ga_up σ fT_count v0 0 (w32 ((σ fT_count v0 0) + 1))) fT_kinds v0 (σ fT_count v0 0) 3))))))) :=
  ga_blk_eq am_G (am_run d) mt_t_textAlone 13 40 [(0, 6, v0)] [] σ
set_option maxRecDepth 100000 in
theorem e_t_inside (d : Nat) (σ : ga_S) (a0 a1 a2 : Int) : c_t_inside (d + 1) σ a0 a1 a2 = ga_nn a0 (ga_nn a0 (ga_nn a0 (ga_nn a0 (ga_nn a0 (ga_nn a0 (ga_nn a0 (t_inside_36 d (ga_up (ga_up (ga_up (ga_up (ga_up σ fT_at a0 0 a1) fT_size a0 0 a2) fT_inText a0 0 1) fT_count a0 0 0) fT_wrong a0 0 (-1)) a0 (σ fT_at a0 0) (σ fT_size a0 0)))))))) :=
  ga_blk_eq am_G (am_run d) mt_t_inside 21 0 [(0, 6, a0), (1, 0, a1), (2, 0, a2)] [] σ
set_option maxRecDepth 100000 in
theorem e_t_inside_36 (d : Nat) (σ : ga_S) (v0 v3 v4 : Int) : t_inside_36 d σ v0 v3 v4 = ga_nn v0 ((c_t_next d σ v0).bind fun q1 =>
      ga_nn v0 (ga_nn v0 (ga_nn v0 (ga_ck (q1.2 fT_count v0 0) 5002 (ga_nn v0 (ga_nn v0 (if q1.1 = 8 then
                    t_inside_79 d (ga_up (ga_up q1.2 fT_kinds v0 (q1.2 fT_count v0 0) q1.1) fT_count v0 0 (w32 ((q1.2 fT_count v0 0) + 1))) v0 v3 v4
                  else
                    if q1.1 = 7 then
                      t_inside_79 d (ga_up (ga_up q1.2 fT_kinds v0 (q1.2 fT_count v0 0) q1.1) fT_count v0 0 (w32 ((q1.2 fT_count v0 0) + 1))) v0 v3 v4
                    else
                      t_inside_36 d (ga_up (ga_up q1.2 fT_kinds v0 (q1.2 fT_count v0 0) q1.1) fT_count v0 0 (w32 ((q1.2 fT_count v0 0) + 1))) v0 v3 v4))))))) :=
  ga_blk_eq am_G (am_run d) mt_t_inside 21 36 [(0, 6, v0), (3, 0, v3), (4, 0, v4)] [] σ
set_option maxRecDepth 100000 in
theorem e_t_inside_79 (d : Nat) (σ : ga_S) (v0 v3 v4 : Int) : t_inside_79 d σ v0 v3 v4 = ga_nn v0 (ga_nn v0 (ga_nn v0 (some (0, (ga_up (ga_up (ga_up σ fT_inText v0 0 0) fT_at v0 0 v3) fT_size v0 0 v4))))) :=
  ga_blk_eq am_G (am_run d) mt_t_inside 10 79 [(0, 6, v0), (3, 0, v3), (4, 0, v4)] [] σ
set_option maxRecDepth 100000 in
theorem e_t_blanks (d : Nat) (σ : ga_S) (a0 : Int) : c_t_blanks (d + 1) σ a0 = t_blanks_2 d σ a0 1 :=
  ga_blk_eq am_G (am_run d) mt_t_blanks 2 0 [(0, 6, a0)] [] σ
set_option maxRecDepth 100000 in
theorem e_t_blanks_2 (d : Nat) (σ : ga_S) (v0 v1 : Int) : t_blanks_2 d σ v0 v1 = if v1 = 0 then
    some (1, σ)
  else
    ga_nn v0 (ga_nn v0 (if (σ fT_at v0 0) < (σ fT_size v0 0) then
          ga_nn v0 (ga_nn v0 (ga_nn v0 (ga_ck (σ fT_at v0 0) 5000 (if (σ fT_bytes v0 (σ fT_at v0 0)) = 91 then
                    ga_nn v0 (if (σ fT_inText v0 0) = 0 then
                        ga_nn v0 (t_blanks_45 d σ v0 v1 (σ fT_at v0 0))
                      else
                        t_blanks_90 d σ v0 v1 (σ fT_bytes v0 (σ fT_at v0 0)))
                  else
                    t_blanks_90 d σ v0 v1 (σ fT_bytes v0 (σ fT_at v0 0))))))
        else
          some (1, σ))) :=
  ga_blk_eq am_G (am_run d) mt_t_blanks 22 2 [(0, 6, v0), (1, 0, v1)] [] σ
set_option maxRecDepth 100000 in
theorem e_t_blanks_90 (d : Nat) (σ : ga_S) (v0 v1 v2 : Int) : t_blanks_90 d σ v0 v1 v2 = if v2 = 9 then
    t_blanks_114 d σ v0 v1
  else
    if v2 = 10 then
      t_blanks_114 d σ v0 v1
    else
      if v2 = 13 then
        t_blanks_114 d σ v0 v1
      else
        if v2 = 32 then
          t_blanks_114 d σ v0 v1
        else
          t_blanks_129 d σ v0 0 :=
  ga_blk_eq am_G (am_run d) mt_t_blanks 14 90 [(0, 6, v0), (1, 0, v1), (2, 0, v2)] [] σ
set_option maxRecDepth 100000 in
theorem e_t_blanks_45 (d : Nat) (σ : ga_S) (v0 v1 v3 : Int) : t_blanks_45 d σ v0 v1 v3 = ga_nn v0 (if v3 < (σ fT_size v0 0) then
      ga_nn v0 (ga_nn v0 (ga_ck v3 5000 (if (σ fT_bytes v0 v3) = 93 then
              t_blanks_70 d σ v0 v1 v3
            else
              t_blanks_45 d σ v0 v1 (w32 (v3 + 1)))))
    else
      t_blanks_70 d σ v0 v1 v3) :=
  ga_blk_eq am_G (am_run d) mt_t_blanks 12 45 [(0, 6, v0), (1, 0, v1), (3, 0, v3)] [] σ
set_option maxRecDepth 100000 in
theorem e_t_blanks_114 (d : Nat) (σ : ga_S) (v0 v1 : Int) : t_blanks_114 d σ v0 v1 = ga_nn v0 (ga_nn v0 (t_blanks_129 d (ga_up σ fT_at v0 0 (w32 ((σ fT_at v0 0) + 1))) v0 v1)) :=
  ga_blk_eq am_G (am_run d) mt_t_blanks 7 114 [(0, 6, v0), (1, 0, v1)] [] σ
set_option maxRecDepth 100000 in
theorem e_t_blanks_129 (d : Nat) (σ : ga_S) (v0 v1 : Int) : t_blanks_129 d σ v0 v1 = t_blanks_2 d σ v0 v1 :=
  ga_blk_eq am_G (am_run d) mt_t_blanks 1 129 [(0, 6, v0), (1, 0, v1)] [] σ
set_option maxRecDepth 100000 in
theorem e_t_blanks_70 (d : Nat) (σ : ga_S) (v0 v1 v3 : Int) : t_blanks_70 d σ v0 v1 v3 = ga_nn v0 (if v3 = (σ fT_size v0 0) then
      some (0, σ)
    else
      ga_nn v0 (t_blanks_129 d (ga_up σ fT_at v0 0 (w32 (v3 + 1))) v0 v1)) :=
  ga_blk_eq am_G (am_run d) mt_t_blanks 10 70 [(0, 6, v0), (1, 0, v1), (3, 0, v3)] [] σ
set_option maxRecDepth 100000 in
theorem e_t_next (d : Nat) (σ : ga_S) (a0 : Int) : c_t_next (d + 1) σ a0 = ga_nn a0 ((c_t_blanks d σ a0).bind fun q1 =>
      ga_nn a0 (ga_nn a0 (ga_nn a0 (ga_nn a0 (ga_ck (q1.2 fT_count a0 0) 5002 (ga_nn a0 (ga_nn a0 (ga_nn a0 (ga_ck (q1.2 fT_count a0 0) 5002 (if q1.1 = 0 then
                          ga_nn a0 (ga_nn a0 (some (7, (ga_up (ga_up (ga_up q1.2 fT_places a0 (q1.2 fT_count a0 0) (q1.2 fT_at a0 0)) fT_lengths a0 (q1.2 fT_count a0 0) 0) fT_wrong a0 0 (q1.2 fT_at a0 0)))))
                        else
                          ga_nn a0 (ga_nn a0 (if (q1.2 fT_at a0 0) < (q1.2 fT_size a0 0) then
                                ga_nn a0 (ga_nn a0 (ga_nn a0 ((c_t_low d (ga_up (ga_up q1.2 fT_places a0 (q1.2 fT_count a0 0) (q1.2 fT_at a0 0)) fT_lengths a0 (q1.2 fT_count a0 0) 0) a0 (q1.2 fT_at a0 0)).bind fun q2 =>
                                        (c_t_isLetter d q2.2 q2.1).bind fun q3 =>
                                          if q3.1 = 0 then
                                            ga_nn a0 (ga_nn a0 (ga_nn a0 (ga_ck (q3.2 fT_at a0 0) 5000 ((c_t_isFigure d q3.2 (q3.2 fT_bytes a0 (q3.2 fT_at a0 0))).bind fun q4 =>
                                                      if q4.1 = 0 then
                                                        ga_nn a0 (ga_nn a0 (ga_nn a0 (ga_ck (q4.2 fT_at a0 0) 5000 (if (q4.2 fT_bytes a0 (q4.2 fT_at a0 0)) = 34 then
                                                                  ga_nn a0 ((c_t_quoted d q4.2 a0).bind fun q5 =>
                                                                      t_next_311 d q5.2 a0 (q1.2 fT_at a0 0) q5.1)
                                                                else
                                                                  ga_nn a0 (ga_nn a0 (ga_nn a0 (ga_nn a0 (ga_ck (q4.2 fT_at a0 0) 5000 (if (q4.2 fT_bytes a0 (q4.2 fT_at a0 0)) = 46 then
                                                                              t_next_310 d (ga_up q4.2 fT_at a0 0 (w32 ((q4.2 fT_at a0 0) + 1))) a0 (q1.2 fT_at a0 0) 3
                                                                            else
                                                                              if (q4.2 fT_bytes a0 (q4.2 fT_at a0 0)) = 44 then
                                                                                t_next_310 d (ga_up q4.2 fT_at a0 0 (w32 ((q4.2 fT_at a0 0) + 1))) a0 (q1.2 fT_at a0 0) 4
                                                                              else
                                                                                if (q4.2 fT_bytes a0 (q4.2 fT_at a0 0)) = 59 then
                                                                                  t_next_310 d (ga_up q4.2 fT_at a0 0 (w32 ((q4.2 fT_at a0 0) + 1))) a0 (q1.2 fT_at a0 0) 5
                                                                                else
                                                                                  if (q4.2 fT_bytes a0 (q4.2 fT_at a0 0)) = 58 then
                                                                                    t_next_310 d (ga_up q4.2 fT_at a0 0 (w32 ((q4.2 fT_at a0 0) + 1))) a0 (q1.2 fT_at a0 0) 6
                                                                                  else
                                                                                    t_next_310 d (ga_up q4.2 fT_at a0 0 (w32 ((q4.2 fT_at a0 0) + 1))) a0 (q1.2 fT_at a0 0) 7)))))))))
                                                      else
                                                        t_next_152 d q4.2 a0 (q1.2 fT_at a0 0)))))
                                          else
                                            t_next_78 d q3.2 a0 (q1.2 fT_at a0 0))))
                              else
                                some (8, (ga_up (ga_up q1.2 fT_places a0 (q1.2 fT_count a0 0) (q1.2 fT_at a0 0)) fT_lengths a0 (q1.2 fT_count a0 0) 0)))))))))))))) :=
  ga_blk_eq am_G (am_run d) mt_t_next 71 0 [(0, 6, a0)] [] σ
set_option maxRecDepth 100000 in
theorem e_t_next_310 (d : Nat) (σ : ga_S) (v0 v2 s0 : Int) : t_next_310 d σ v0 v2 s0 = t_next_311 d σ v0 v2 s0 :=
  ga_blk_eq am_G (am_run d) mt_t_next 1 310 [(0, 6, v0), (2, 0, v2)] [(11, s0)] σ
set_option maxRecDepth 100000 in
theorem e_t_next_311 (d : Nat) (σ : ga_S) (v0 v2 v3 : Int) : t_next_311 d σ v0 v2 v3 = ga_nn v0 (ga_nn v0 (ga_nn v0 (ga_nn v0 (ga_ck (σ fT_count v0 0) 5002 (if v3 = 7 then
              t_next_342 d (ga_up σ fT_lengths v0 (σ fT_count v0 0) (w32 ((σ fT_at v0 0) - v2))) v3 v2 v0
            else
              ga_nn v0 (t_next_342 d (ga_up σ fT_lengths v0 (σ fT_count v0 0) (w32 ((σ fT_at v0 0) - v2))) v3 (σ fT_wrong v0 0) v0)))))) :=
  ga_blk_eq am_G (am_run d) mt_t_next 15 311 [(0, 6, v0), (2, 0, v2), (3, 11, v3)] [] σ
set_option maxRecDepth 100000 in
theorem e_t_next_152 (d : Nat) (σ : ga_S) (v0 v2 : Int) : t_next_152 d σ v0 v2 = ga_nn v0 (ga_nn v0 (if (σ fT_at v0 0) < (σ fT_size v0 0) then
        ga_nn v0 (ga_nn v0 (ga_nn v0 (ga_ck (σ fT_at v0 0) 5000 ((c_t_isFigure d σ (σ fT_bytes v0 (σ fT_at v0 0))).bind fun q6 =>
                  if q6.1 = 0 then
                    t_next_191 d q6.2 v0 v2
                  else
                    ga_nn v0 (ga_nn v0 (t_next_152 d (ga_up q6.2 fT_at v0 0 (w32 ((q6.2 fT_at v0 0) + 1))) v0 v2))))))
      else
        t_next_191 d σ v0 v2)) :=
  ga_blk_eq am_G (am_run d) mt_t_next 19 152 [(0, 6, v0), (2, 0, v2)] [] σ
set_option maxRecDepth 100000 in
theorem e_t_next_78 (d : Nat) (σ : ga_S) (v0 v2 : Int) : t_next_78 d σ v0 v2 = ga_nn v0 (ga_nn v0 ((c_t_low d σ v0 (σ fT_at v0 0)).bind fun q7 =>
        (c_t_isLetter d q7.2 q7.1).bind fun q8 =>
          if q8.1 = 0 then
            ga_nn v0 (if 12 < (w32 ((q8.2 fT_at v0 0) - v2)) then
                t_next_133 d q8.2 v0 v2 7
              else
                ga_nn v0 (ga_nn v0 ((c_t_word d q8.2 v0 v2 (w32 ((q8.2 fT_at v0 0) - v2))).bind fun q9 =>
                      t_next_133 d q9.2 v0 v2 q9.1)))
          else
            ga_nn v0 (ga_nn v0 (t_next_78 d (ga_up q8.2 fT_at v0 0 (w32 ((q8.2 fT_at v0 0) + 1))) v0 v2)))) :=
  ga_blk_eq am_G (am_run d) mt_t_next 19 78 [(0, 6, v0), (2, 0, v2)] [] σ
set_option maxRecDepth 100000 in
theorem e_t_next_342 (d : Nat) (σ : ga_S) (v3 s0 s1 : Int) : t_next_342 d σ v3 s0 s1 = ga_nn s1 (some (v3, (ga_up σ fT_wrong s1 0 s0))) :=
  ga_blk_eq am_G (am_run d) mt_t_next 3 342 [(3, 11, v3)] [(0, s0), (6, s1)] σ
set_option maxRecDepth 100000 in
theorem e_t_next_191 (d : Nat) (σ : ga_S) (v0 v2 : Int) : t_next_191 d σ v0 v2 = ga_nn v0 (if 6 < (w32 ((σ fT_at v0 0) - v2)) then
      t_next_211 d σ v0 v2 7
    else
      t_next_211 d σ v0 v2 1) :=
  ga_blk_eq am_G (am_run d) mt_t_next 8 191 [(0, 6, v0), (2, 0, v2)] [] σ
set_option maxRecDepth 100000 in
theorem e_t_next_133 (d : Nat) (σ : ga_S) (v0 v2 s0 : Int) : t_next_133 d σ v0 v2 s0 = t_next_311 d σ v0 v2 s0 :=
  ga_blk_eq am_G (am_run d) mt_t_next 2 133 [(0, 6, v0), (2, 0, v2)] [(11, s0)] σ
set_option maxRecDepth 100000 in
theorem e_t_next_211 (d : Nat) (σ : ga_S) (v0 v2 s0 : Int) : t_next_211 d σ v0 v2 s0 = t_next_311 d σ v0 v2 s0 :=
  ga_blk_eq am_G (am_run d) mt_t_next 2 211 [(0, 6, v0), (2, 0, v2)] [(11, s0)] σ
set_option maxRecDepth 100000 in
theorem e_t_quoted (d : Nat) (σ : ga_S) (a0 : Int) : c_t_quoted (d + 1) σ a0 = ga_nn a0 (t_quoted_7 d σ a0 (w32 ((σ fT_at a0 0) + 1))) :=
  ga_blk_eq am_G (am_run d) mt_t_quoted 5 0 [(0, 6, a0)] [] σ
set_option maxRecDepth 100000 in
theorem e_t_quoted_7 (d : Nat) (σ : ga_S) (v0 v1 : Int) : t_quoted_7 d σ v0 v1 = ga_nn v0 (if v1 < (σ fT_size v0 0) then
      ga_nn v0 (ga_nn v0 (ga_ck v1 5000 (if (σ fT_bytes v0 v1) = 34 then
              t_quoted_58 d σ v0 v1
            else
              ga_nn v0 (ga_nn v0 (ga_ck v1 5000 (if (σ fT_bytes v0 v1) < 32 then
                      some (7, σ)
                    else
                      ga_nn v0 (ga_nn v0 (ga_ck v1 5000 (if 126 < (σ fT_bytes v0 v1) then
                              some (7, σ)
                            else
                              t_quoted_7 d σ v0 (w32 (v1 + 1)))))))))))
    else
      t_quoted_58 d σ v0 v1) :=
  ga_blk_eq am_G (am_run d) mt_t_quoted 24 7 [(0, 6, v0), (1, 0, v1)] [] σ
set_option maxRecDepth 100000 in
theorem e_t_quoted_58 (d : Nat) (σ : ga_S) (v0 v1 : Int) : t_quoted_58 d σ v0 v1 = ga_nn v0 (if v1 < (σ fT_size v0 0) then
      ga_nn v0 (if 120 < (w32 ((w32 (v1 - (σ fT_at v0 0))) - 1)) then
          some (7, σ)
        else
          ga_nn v0 (some (2, (ga_up σ fT_at v0 0 (w32 (v1 + 1))))))
    else
      some (7, σ)) :=
  ga_blk_eq am_G (am_run d) mt_t_quoted 19 58 [(0, 6, v0), (1, 0, v1)] [] σ
set_option maxRecDepth 100000 in
theorem e_t_word (d : Nat) (σ : ga_S) (a0 a1 a2 : Int) : c_t_word (d + 1) σ a0 a1 a2 = t_word_5 d σ a0 a1 a2 0 0 :=
  ga_blk_eq am_G (am_run d) mt_t_word 4 0 [(0, 6, a0), (1, 0, a1), (2, 0, a2)] [] σ
set_option maxRecDepth 100000 in
theorem e_t_word_5 (d : Nat) (σ : ga_S) (v0 v1 v2 v3 v4 : Int) : t_word_5 d σ v0 v1 v2 v3 v4 = (p_len d σ 29).bind fun q1 =>
    if (w32 (v4 + 1)) < q1.1 then
      (p_idx d q1.2 29 32 (w32 (v4 + 1))).bind fun q2 =>
        if (w32 ((w32 (q2.1 - v4)) - 1)) = v2 then
          t_word_46 d q2.2 v0 v1 v2 v3 v4 q2.1 1
        else
          t_word_46 d q2.2 v0 v1 v2 v3 v4 q2.1 0
    else
      some (0, q1.2) :=
  ga_blk_eq am_G (am_run d) mt_t_word 22 5 [(0, 6, v0), (1, 0, v1), (2, 0, v2), (3, 0, v3), (4, 0, v4)] [] σ
set_option maxRecDepth 100000 in
theorem e_t_word_46 (d : Nat) (σ : ga_S) (v0 v1 v2 v3 v4 v5 s0 : Int) : t_word_46 d σ v0 v1 v2 v3 v4 v5 s0 = t_word_51 d σ v0 v1 v2 v3 v4 v5 s0 0 :=
  ga_blk_eq am_G (am_run d) mt_t_word 3 46 [(0, 6, v0), (1, 0, v1), (2, 0, v2), (3, 0, v3), (4, 0, v4), (5, 0, v5)] [(0, s0)] σ
set_option maxRecDepth 100000 in
theorem e_t_word_51 (d : Nat) (σ : ga_S) (v0 v1 v2 v3 v4 v5 v6 v7 : Int) : t_word_51 d σ v0 v1 v2 v3 v4 v5 v6 v7 = if v7 < v2 then
    if v6 = 0 then
      t_word_98 d σ v0 v1 v2 v3 v5 v6
    else
      ga_nn v0 ((c_t_low d σ v0 (w32 (v1 + v7))).bind fun q3 =>
          (p_chr d q3.2 29 (w32 ((w32 (v4 + 1)) + v7))).bind fun q4 =>
            if q3.1 = q4.1 then
              t_word_90 d q4.2 v0 v1 v2 v3 v4 v5 v7 1
            else
              t_word_90 d q4.2 v0 v1 v2 v3 v4 v5 v7 0)
  else
    t_word_98 d σ v0 v1 v2 v3 v5 v6 :=
  ga_blk_eq am_G (am_run d) mt_t_word 20 51 [(0, 6, v0), (1, 0, v1), (2, 0, v2), (3, 0, v3), (4, 0, v4), (5, 0, v5), (6, 0, v6), (7, 0, v7)] [] σ
set_option maxRecDepth 100000 in
theorem e_t_word_98 (d : Nat) (σ : ga_S) (v0 v1 v2 v3 v5 v6 : Int) : t_word_98 d σ v0 v1 v2 v3 v5 v6 = if v6 = 0 then
    t_word_5 d σ v0 v1 v2 (w32 (v3 + 1)) v5
  else
    ga_nn v0 ((p_ord d σ 9).bind fun q5 =>
        ga_nn v0 (ga_ck (w32 (q5.1 + v3)) 64 (some ((q5.2 fT_all v0 (w32 (q5.1 + v3))), q5.2)))) :=
  ga_blk_eq am_G (am_run d) mt_t_word 10 98 [(0, 6, v0), (1, 0, v1), (2, 0, v2), (3, 0, v3), (5, 0, v5), (6, 0, v6)] [] σ
set_option maxRecDepth 100000 in
theorem e_t_word_90 (d : Nat) (σ : ga_S) (v0 v1 v2 v3 v4 v5 v7 s0 : Int) : t_word_90 d σ v0 v1 v2 v3 v4 v5 v7 s0 = t_word_51 d σ v0 v1 v2 v3 v4 v5 s0 (w32 (v7 + 1)) :=
  ga_blk_eq am_G (am_run d) mt_t_word 3 90 [(0, 6, v0), (1, 0, v1), (2, 0, v2), (3, 0, v3), (4, 0, v4), (5, 0, v5), (7, 0, v7)] [(0, s0)] σ
set_option maxRecDepth 100000 in
theorem e_t_number (d : Nat) (σ : ga_S) (a0 a1 : Int) : c_t_number (d + 1) σ a0 a1 = t_number_4 d σ a0 a1 0 0 :=
  ga_blk_eq am_G (am_run d) mt_t_number 4 0 [(0, 6, a0), (1, 0, a1)] [] σ
set_option maxRecDepth 100000 in
theorem e_t_number_4 (d : Nat) (σ : ga_S) (v0 v1 v2 v3 : Int) : t_number_4 d σ v0 v1 v2 v3 = ga_nn v0 (ga_nn v0 (ga_ck v1 5002 (if v3 < (σ fT_lengths v0 v1) then
          ga_nn v0 (ga_nn v0 (ga_nn v0 (ga_ck v1 5002 (ga_nn v0 (ga_ck (w32 ((σ fT_places v0 v1) + v3)) 5000 (t_number_4 d σ v0 v1 (w32 ((w32 ((w32 (10 * v2)) + (σ fT_bytes v0 (w32 ((σ fT_places v0 v1) + v3))))) - 48)) (w32 (v3 + 1))))))))
        else
          some (v2, σ)))) :=
  ga_blk_eq am_G (am_run d) mt_t_number 24 4 [(0, 6, v0), (1, 0, v1), (2, 0, v2), (3, 0, v3)] [] σ
set_option maxRecDepth 100000 in
theorem e_r_is (d : Nat) (σ : ga_S) (a1 a2 : Int) : c_r_is (d + 1) σ a1 a2 = ga_ck a1 5002 (if (σ fT_kinds 0 a1) = a2 then
      some (1, σ)
    else
      some (0, σ)) :=
  ga_blk_eq am_G (am_run d) mt_r_is 10 0 [(0, 7, 0), (1, 0, a1), (2, 11, a2)] [] σ
set_option maxRecDepth 100000 in
theorem e_r_isFree (d : Nat) (σ : ga_S) (a1 : Int) : c_r_isFree (d + 1) σ a1 = ga_ck a1 5002 (if (σ fT_kinds 0 a1) = 0 then
      some (1, σ)
    else
      some (0, σ)) :=
  ga_blk_eq am_G (am_run d) mt_r_isFree 10 0 [(0, 7, 0), (1, 0, a1)] [] σ
set_option maxRecDepth 100000 in
theorem e_r_wrong (d : Nat) (σ : ga_S) : c_r_wrong (d + 1) σ = if (σ fR_bad 0 0) = (-1) then
    r_wrong_20 d σ (σ fR_p 0 0)
  else
    r_wrong_20 d σ (σ fR_bad 0 0) :=
  ga_blk_eq am_G (am_run d) mt_r_wrong 8 0 [(0, 7, 0)] [] σ
set_option maxRecDepth 100000 in
theorem e_r_wrong_20 (d : Nat) (σ : ga_S) (s0 : Int) : r_wrong_20 d σ s0 = some (0, (ga_up σ fR_bad 0 0 s0)) :=
  ga_blk_eq am_G (am_run d) mt_r_wrong 3 20 [] [(0, s0), (7, 0)] σ
set_option maxRecDepth 100000 in
theorem e_r_take (d : Nat) (σ : ga_S) (a1 : Int) : c_r_take (d + 1) σ a1 = if (σ fR_bad 0 0) = (-1) then
    ga_ck (σ fR_p 0 0) 5002 (if (σ fT_kinds 0 (σ fR_p 0 0)) = a1 then
        some (1, (ga_up σ fR_p 0 0 (w32 ((σ fR_p 0 0) + 1))))
      else
        r_take_24 d σ)
  else
    r_take_24 d σ :=
  ga_blk_eq am_G (am_run d) mt_r_take 20 0 [(0, 7, 0), (1, 11, a1)] [] σ
set_option maxRecDepth 100000 in
theorem e_r_take_24 (d : Nat) (σ : ga_S) : r_take_24 d σ = (c_r_wrong d σ).bind fun q1 =>
    ga_01 q1.1 (some (q1.1, q1.2)) :=
  ga_blk_eq am_G (am_run d) mt_r_take 3 24 [(0, 7, 0)] [] σ
set_option maxRecDepth 100000 in
theorem e_r_takes (d : Nat) (σ : ga_S) (a1 : Int) : c_r_takes (d + 1) σ a1 = if (σ fR_bad 0 0) = (-1) then
    ga_ck (σ fR_p 0 0) 5002 (if (σ fT_kinds 0 (σ fR_p 0 0)) = a1 then
        r_takes_29 d σ 1
      else
        r_takes_28 d σ)
  else
    r_takes_28 d σ :=
  ga_blk_eq am_G (am_run d) mt_r_takes 14 0 [(0, 7, 0), (1, 11, a1)] [] σ
set_option maxRecDepth 100000 in
theorem e_r_takes_28 (d : Nat) (σ : ga_S) : r_takes_28 d σ = r_takes_29 d σ 0 :=
  ga_blk_eq am_G (am_run d) mt_r_takes 1 28 [(0, 7, 0)] [] σ
set_option maxRecDepth 100000 in
theorem e_r_takes_29 (d : Nat) (σ : ga_S) (s0 : Int) : r_takes_29 d σ s0 = if s0 = 0 then
    r_takes_44 d σ s0 0 (σ fR_p 0 0)
  else
    r_takes_44 d σ s0 1 (σ fR_p 0 0) :=
  ga_blk_eq am_G (am_run d) mt_r_takes 8 29 [(0, 7, 0)] [(0, s0)] σ
set_option maxRecDepth 100000 in
theorem e_r_takes_44 (d : Nat) (σ : ga_S) (v2 s0 s1 : Int) : r_takes_44 d σ v2 s0 s1 = ga_01 v2 (some (v2, (ga_up σ fR_p 0 0 (w32 (s1 + s0))))) :=
  ga_blk_eq am_G (am_run d) mt_r_takes 4 44 [(2, 0, v2)] [(0, s0), (0, s1), (7, 0)] σ
set_option maxRecDepth 100000 in
theorem e_r_run (d : Nat) (σ : ga_S) : c_r_run (d + 1) σ = if (σ fR_bad 0 0) = (-1) then
    (c_r_isFree d σ (σ fR_p 0 0)).bind fun q1 =>
      if q1.1 = 0 then
        r_run_19 d q1.2
      else
        ga_ck (q1.2 fR_runs 0 0) 5000 (r_run_38 d (ga_up q1.2 fR_runFrom 0 (q1.2 fR_runs 0 0) (q1.2 fR_p 0 0)))
  else
    r_run_19 d σ :=
  ga_blk_eq am_G (am_run d) mt_r_run 16 0 [(0, 7, 0)] [] σ
set_option maxRecDepth 100000 in
theorem e_r_run_19 (d : Nat) (σ : ga_S) : r_run_19 d σ = (c_r_wrong d σ).bind fun q2 =>
    some (0, q2.2) :=
  ga_blk_eq am_G (am_run d) mt_r_run 4 19 [(0, 7, 0)] [] σ
set_option maxRecDepth 100000 in
theorem e_r_run_38 (d : Nat) (σ : ga_S) : r_run_38 d σ = (c_r_isFree d σ (σ fR_p 0 0)).bind fun q3 =>
    if q3.1 = 0 then
      ga_ck (q3.2 fR_runs 0 0) 5000 (some (0, (ga_up (ga_up q3.2 fR_runTo 0 (q3.2 fR_runs 0 0) (q3.2 fR_p 0 0)) fR_runs 0 0 (w32 ((q3.2 fR_runs 0 0) + 1)))))
    else
      r_run_38 d (ga_up q3.2 fR_p 0 0 (w32 ((q3.2 fR_p 0 0) + 1))) :=
  ga_blk_eq am_G (am_run d) mt_r_run 19 38 [(0, 7, 0)] [] σ
set_option maxRecDepth 100000 in
theorem e_r_article (d : Nat) (σ : ga_S) : c_r_article (d + 1) σ = if (σ fR_bad 0 0) = (-1) then
    ga_ck (σ fR_p 0 0) 5002 (ga_nn (σ fT_kinds 0 (σ fR_p 0 0)) ((c_k_isArticle d σ (σ fT_kinds 0 (σ fR_p 0 0))).bind fun q1 =>
          if q1.1 = 0 then
            r_article_35 d q1.2 (σ fR_p 0 0)
          else
            r_article_36 d q1.2 1 (σ fR_p 0 0)))
  else
    r_article_35 d σ (σ fR_p 0 0) :=
  ga_blk_eq am_G (am_run d) mt_r_article 17 0 [(0, 7, 0)] [] σ
set_option maxRecDepth 100000 in
theorem e_r_article_35 (d : Nat) (σ : ga_S) (s0 : Int) : r_article_35 d σ s0 = r_article_36 d σ 0 s0 :=
  ga_blk_eq am_G (am_run d) mt_r_article 1 35 [] [(0, s0), (7, 0)] σ
set_option maxRecDepth 100000 in
theorem e_r_article_36 (d : Nat) (σ : ga_S) (s0 s1 : Int) : r_article_36 d σ s0 s1 = some (0, (ga_up σ fR_p 0 0 (w32 (s1 + s0)))) :=
  ga_blk_eq am_G (am_run d) mt_r_article 3 36 [] [(0, s0), (0, s1), (7, 0)] σ
set_option maxRecDepth 100000 in
theorem e_r_name (d : Nat) (σ : ga_S) : c_r_name (d + 1) σ = (c_r_article d σ).bind fun q1 =>
    (c_r_run d q1.2).bind fun q2 =>
      some (0, q2.2) :=
  ga_blk_eq am_G (am_run d) mt_r_name 5 0 [(0, 7, 0)] [] σ
set_option maxRecDepth 100000 in
theorem e_r_needArticle (d : Nat) (σ : ga_S) : c_r_needArticle (d + 1) σ = if (σ fR_bad 0 0) = (-1) then
    ga_ck (σ fR_p 0 0) 5002 (ga_nn (σ fT_kinds 0 (σ fR_p 0 0)) ((c_k_isArticle d σ (σ fT_kinds 0 (σ fR_p 0 0))).bind fun q1 =>
          if q1.1 = 0 then
            r_needArticle_26 d q1.2
          else
            some (0, (ga_up q1.2 fR_p 0 0 (w32 ((q1.2 fR_p 0 0) + 1))))))
  else
    r_needArticle_26 d σ :=
  ga_blk_eq am_G (am_run d) mt_r_needArticle 19 0 [(0, 7, 0)] [] σ
set_option maxRecDepth 100000 in
theorem e_r_needArticle_26 (d : Nat) (σ : ga_S) : r_needArticle_26 d σ = (c_r_wrong d σ).bind fun q2 =>
    some (0, q2.2) :=
  ga_blk_eq am_G (am_run d) mt_r_needArticle 4 26 [(0, 7, 0)] [] σ
set_option maxRecDepth 100000 in
theorem e_r_separator (d : Nat) (σ : ga_S) : c_r_separator (d + 1) σ = (c_r_takes d σ 4).bind fun q1 =>
    if q1.1 = 0 then
      (c_r_takes d q1.2 25).bind fun q2 =>
        ga_01 q2.1 (some (q2.1, q2.2))
    else
      (c_r_takes d q1.2 25).bind fun q3 =>
        some (1, q3.2) :=
  ga_blk_eq am_G (am_run d) mt_r_separator 10 0 [(0, 7, 0)] [] σ
set_option maxRecDepth 100000 in
theorem e_r_be (d : Nat) (σ : ga_S) : c_r_be (d + 1) σ = if (σ fR_bad 0 0) = (-1) then
    (c_r_is d σ (σ fR_p 0 0) 13).bind fun q1 =>
      if q1.1 = 0 then
        (c_r_is d q1.2 (q1.2 fR_p 0 0) 14).bind fun q2 =>
          if q2.1 = 0 then
            r_be_65 d q2.2
          else
            r_be_36 d q2.2
      else
        r_be_36 d q1.2
  else
    r_be_65 d σ :=
  ga_blk_eq am_G (am_run d) mt_r_be 16 0 [(0, 7, 0)] [] σ
set_option maxRecDepth 100000 in
theorem e_r_be_65 (d : Nat) (σ : ga_S) : r_be_65 d σ = (c_r_wrong d σ).bind fun q3 =>
    some (0, q3.2) :=
  ga_blk_eq am_G (am_run d) mt_r_be 4 65 [(0, 7, 0)] [] σ
set_option maxRecDepth 100000 in
theorem e_r_be_36 (d : Nat) (σ : ga_S) : r_be_36 d σ = ga_ck (σ fR_p 0 0) 5002 (some (0, (ga_up (ga_up σ fR_verb 0 0 (σ fT_kinds 0 (σ fR_p 0 0))) fR_p 0 0 (w32 ((σ fR_p 0 0) + 1))))) :=
  ga_blk_eq am_G (am_run d) mt_r_be 16 36 [(0, 7, 0)] [] σ
set_option maxRecDepth 100000 in
theorem e_r_what (d : Nat) (σ : ga_S) : c_r_what (d + 1) σ = (c_r_takes d (ga_up σ fR_whatAt 0 0 (σ fR_p 0 0)) 1).bind fun q1 =>
    if q1.1 = 0 then
      (c_r_takes d q1.2 2).bind fun q2 =>
        if q2.1 = 0 then
          (c_r_run d q2.2).bind fun q3 =>
            some (0, q3.2)
        else
          some (0, q2.2)
    else
      some (0, q1.2) :=
  ga_blk_eq am_G (am_run d) mt_r_what 15 0 [(0, 7, 0)] [] σ
set_option maxRecDepth 100000 in
theorem e_r_oneOrVarious (d : Nat) (σ : ga_S) (a1 : Int) : c_r_oneOrVarious (d + 1) σ a1 = (c_r_takes d σ 31).bind fun q1 =>
    if q1.1 = 0 then
      (c_r_take d q1.2 32).bind fun q2 =>
        r_oneOrVarious_20 d q2.2 a1 q1.1
    else
      r_oneOrVarious_20 d q1.2 a1 q1.1 :=
  ga_blk_eq am_G (am_run d) mt_r_oneOrVarious 10 0 [(0, 7, 0), (1, 0, a1)] [] σ
set_option maxRecDepth 100000 in
theorem e_r_oneOrVarious_20 (d : Nat) (σ : ga_S) (v1 v2 : Int) : r_oneOrVarious_20 d σ v1 v2 = if v1 = 0 then
    ga_01 v2 (some (0, (ga_up σ fR_secondOne 0 0 v2)))
  else
    ga_01 v2 (some (0, (ga_up σ fR_firstOne 0 0 v2))) :=
  ga_blk_eq am_G (am_run d) mt_r_oneOrVarious 7 20 [(0, 7, 0), (1, 0, v1), (2, 0, v2)] [] σ
set_option maxRecDepth 100000 in
theorem e_r_isPlace (d : Nat) (σ : ga_S) : c_r_isPlace (d + 1) σ = (c_r_is d σ (σ fR_p 0 0) 17).bind fun q1 =>
    if q1.1 = 0 then
      (c_r_is d q1.2 (q1.2 fR_p 0 0) 18).bind fun q2 =>
        if q2.1 = 0 then
          (c_r_is d q2.2 (q2.2 fR_p 0 0) 38).bind fun q3 =>
            if q3.1 = 0 then
              (c_r_is d q3.2 (q3.2 fR_p 0 0) 39).bind fun q4 =>
                if q4.1 = 0 then
                  (c_r_is d q4.2 (q4.2 fR_p 0 0) 40).bind fun q5 =>
                    if q5.1 = 0 then
                      some (0, q5.2)
                    else
                      r_isPlace_70 d q5.2
                else
                  r_isPlace_70 d q4.2
            else
              r_isPlace_70 d q3.2
        else
          r_isPlace_70 d q2.2
    else
      r_isPlace_70 d q1.2 :=
  ga_blk_eq am_G (am_run d) mt_r_isPlace 32 0 [(0, 7, 0)] [] σ
set_option maxRecDepth 100000 in
theorem e_r_isPlace_70 (d : Nat) (σ : ga_S) : r_isPlace_70 d σ = some (1, σ) :=
  ga_blk_eq am_G (am_run d) mt_r_isPlace 3 70 [] [] σ
set_option maxRecDepth 100000 in
theorem e_r_placeWords (d : Nat) (σ : ga_S) : c_r_placeWords (d + 1) σ = ga_ck (σ fR_p 0 0) 5002 (if (σ fT_kinds 0 (σ fR_p 0 0)) = 17 then
      r_placeWords_59 d σ (σ fT_kinds 0 (σ fR_p 0 0)) 1
    else
      if (σ fT_kinds 0 (σ fR_p 0 0)) = 18 then
        r_placeWords_59 d σ (σ fT_kinds 0 (σ fR_p 0 0)) 2
      else
        if (σ fT_kinds 0 (σ fR_p 0 0)) = 38 then
          r_placeWords_59 d σ (σ fT_kinds 0 (σ fR_p 0 0)) 3
        else
          if (σ fT_kinds 0 (σ fR_p 0 0)) = 39 then
            r_placeWords_59 d σ (σ fT_kinds 0 (σ fR_p 0 0)) 4
          else
            r_placeWords_59 d σ (σ fT_kinds 0 (σ fR_p 0 0)) 5) :=
  ga_blk_eq am_G (am_run d) mt_r_placeWords 22 0 [(0, 7, 0)] [] σ
set_option maxRecDepth 100000 in
theorem e_r_placeWords_59 (d : Nat) (σ : ga_S) (v1 s0 : Int) : r_placeWords_59 d σ v1 s0 = if v1 = 38 then
    (c_r_take d (ga_up (ga_up σ fR_placeSort 0 0 s0) fR_p 0 0 (w32 ((σ fR_p 0 0) + 1))) 16).bind fun q1 =>
      some (0, q1.2)
  else
    if v1 = 39 then
      r_placeWords_104 d (ga_up (ga_up σ fR_placeSort 0 0 s0) fR_p 0 0 (w32 ((σ fR_p 0 0) + 1)))
    else
      if v1 = 40 then
        r_placeWords_104 d (ga_up (ga_up σ fR_placeSort 0 0 s0) fR_p 0 0 (w32 ((σ fR_p 0 0) + 1)))
      else
        some (0, (ga_up (ga_up σ fR_placeSort 0 0 s0) fR_p 0 0 (w32 ((σ fR_p 0 0) + 1)))) :=
  ga_blk_eq am_G (am_run d) mt_r_placeWords 17 59 [(0, 7, 0), (1, 11, v1)] [(0, s0), (7, 0)] σ
set_option maxRecDepth 100000 in
theorem e_r_placeWords_104 (d : Nat) (σ : ga_S) : r_placeWords_104 d σ = (c_r_take d σ 19).bind fun q2 =>
    some (0, q2.2) :=
  ga_blk_eq am_G (am_run d) mt_r_placeWords 5 104 [(0, 7, 0)] [] σ
set_option maxRecDepth 100000 in
theorem e_r_placed (d : Nat) (σ : ga_S) : c_r_placed (d + 1) σ = (c_r_placeWords d σ).bind fun q1 =>
    (c_r_article d q1.2).bind fun q2 =>
      (c_r_run d (ga_up q2.2 fR_placeFrom 0 0 (q2.2 fR_p 0 0))).bind fun q3 =>
        some (0, (ga_up (ga_up q3.2 fR_placeTo 0 0 (q3.2 fR_p 0 0)) fR_runs 0 0 (q2.2 fR_runs 0 0))) :=
  ga_blk_eq am_G (am_run d) mt_r_placed 21 0 [(0, 7, 0)] [] σ
set_option maxRecDepth 100000 in
theorem e_r_shape (d : Nat) (σ : ga_S) : c_r_shape (d + 1) σ = ga_nn (σ fT_kinds 0 0) ((p_ord d (ga_up (ga_up (ga_up (ga_up (ga_up (ga_up (ga_up (ga_up (ga_up (ga_up σ fR_p 0 0 0) fR_bad 0 0 (-1)) fR_names 0 0 0) fR_runs 0 0 0) fR_tests 0 0 0) fR_phrases 0 0 0) fR_not 0 0 0) fR_usually 0 0 0) fR_isValue 0 0 0) fR_placeSort 0 0 0) (σ fT_kinds 0 0)).bind fun q1 =>
      if q1.1 = 2 then
        r_shape_264 d (ga_up (ga_up q1.2 fR_sort 0 0 0) fR_p 0 0 (w32 ((q1.2 fR_p 0 0) + 1)))
      else
        if q1.1 = 42 then
          (c_r_take d (ga_up (ga_up (ga_up q1.2 fR_sort 0 0 1) fR_p 0 0 (w32 ((q1.2 fR_p 0 0) + 1))) fR_whatAt 0 0 (w32 ((q1.2 fR_p 0 0) + 1))) 2).bind fun q14 =>
            (c_r_take d q14.2 43).bind fun q15 =>
              (c_r_run d q15.2).bind fun q16 =>
                r_shape_264 d q16.2
        else
          if q1.1 = 44 then
            (c_r_take d (ga_up (ga_up q1.2 fR_sort 0 0 2) fR_p 0 0 (w32 ((q1.2 fR_p 0 0) + 1))) 6).bind fun q7 =>
              (c_r_needArticle d q7.2).bind fun q8 =>
                (c_r_run d q8.2).bind fun q9 =>
                  (c_r_take d q9.2 13).bind fun q10 =>
                    (c_r_run d q10.2).bind fun q11 =>
                      (c_r_take d q11.2 45).bind fun q12 =>
                        (c_r_testsAhead d q12.2 3).bind fun q13 =>
                          r_shape_264 d q13.2
          else
            if q1.1 = 47 then
              (c_r_ruleShape d q1.2).bind fun q6 =>
                r_shape_264 d q6.2
            else
              if q1.1 = 48 then
                (c_r_ruleShape d q1.2).bind fun q5 =>
                  r_shape_264 d q5.2
              else
                if q1.1 = 49 then
                  (c_r_ruleShape d q1.2).bind fun q4 =>
                    r_shape_264 d q4.2
                else
                  if q1.1 = 50 then
                    (c_r_ruleShape d q1.2).bind fun q3 =>
                      r_shape_264 d q3.2
                  else
                    (c_r_otherShape d q1.2).bind fun q2 =>
                      r_shape_264 d q2.2) :=
  ga_blk_eq am_G (am_run d) mt_r_shape 68 0 [(0, 7, 0)] [] σ
set_option maxRecDepth 100000 in
theorem e_r_shape_264 (d : Nat) (σ : ga_S) : r_shape_264 d σ = (c_r_take d σ 3).bind fun q17 =>
    if (q17.2 fR_bad 0 0) = (-1) then
      some (1, q17.2)
    else
      some (0, q17.2) :=
  ga_blk_eq am_G (am_run d) mt_r_shape 11 264 [(0, 7, 0)] [] σ
set_option maxRecDepth 100000 in
theorem e_r_ruleShape (d : Nat) (σ : ga_S) : c_r_ruleShape (d + 1) σ = if (σ fT_kinds 0 0) = 47 then
    r_ruleShape_46 d σ 3
  else
    if (σ fT_kinds 0 0) = 49 then
      r_ruleShape_46 d σ 4
    else
      if (σ fT_kinds 0 0) = 48 then
        r_ruleShape_46 d σ 5
      else
        r_ruleShape_46 d σ 6 :=
  ga_blk_eq am_G (am_run d) mt_r_ruleShape 18 0 [(0, 7, 0)] [] σ
set_option maxRecDepth 100000 in
theorem e_r_ruleShape_46 (d : Nat) (σ : ga_S) (s0 : Int) : r_ruleShape_46 d σ s0 = if s0 = 5 then
    (c_r_take d (ga_up (ga_up σ fR_sort 0 0 s0) fR_p 0 0 (w32 ((σ fR_p 0 0) + 1))) 16).bind fun q1 =>
      r_ruleShape_75 d q1.2
  else
    r_ruleShape_75 d (ga_up (ga_up σ fR_sort 0 0 s0) fR_p 0 0 (w32 ((σ fR_p 0 0) + 1))) :=
  ga_blk_eq am_G (am_run d) mt_r_ruleShape 15 46 [(0, 7, 0)] [(0, s0), (7, 0)] σ
set_option maxRecDepth 100000 in
theorem e_r_ruleShape_75 (d : Nat) (σ : ga_S) : r_ruleShape_75 d σ = if (σ fR_sort 0 0) = 6 then
    (c_r_take d σ 51).bind fun q5 =>
      r_ruleShape_139 d q5.2
  else
    (c_r_run d σ).bind fun q2 =>
      if (q2.2 fR_bad 0 0) = (-1) then
        ga_ck (q2.2 fR_p 0 0) 5002 (ga_nn (q2.2 fT_kinds 0 (q2.2 fR_p 0 0)) ((c_k_isArticle d q2.2 (q2.2 fT_kinds 0 (q2.2 fR_p 0 0))).bind fun q3 =>
              if q3.1 = 0 then
                r_ruleShape_139 d q3.2
              else
                (c_r_run d (ga_up q3.2 fR_p 0 0 (w32 ((q3.2 fR_p 0 0) + 1)))).bind fun q4 =>
                  r_ruleShape_139 d q4.2))
      else
        r_ruleShape_139 d q2.2 :=
  ga_blk_eq am_G (am_run d) mt_r_ruleShape 26 75 [(0, 7, 0)] [] σ
set_option maxRecDepth 100000 in
theorem e_r_ruleShape_139 (d : Nat) (σ : ga_S) : r_ruleShape_139 d σ = (c_r_takes d σ 46).bind fun q6 =>
    if q6.1 = 0 then
      r_ruleShape_156 d q6.2
    else
      (c_r_testsAhead d q6.2 6).bind fun q7 =>
        r_ruleShape_156 d q7.2 :=
  ga_blk_eq am_G (am_run d) mt_r_ruleShape 7 139 [(0, 7, 0)] [] σ
set_option maxRecDepth 100000 in
theorem e_r_ruleShape_156 (d : Nat) (σ : ga_S) : r_ruleShape_156 d σ = (c_r_take d σ 6).bind fun q8 =>
    if (q8.2 fR_bad 0 0) = (-1) then
      r_ruleShape_177 d q8.2 1
    else
      r_ruleShape_177 d q8.2 0 :=
  ga_blk_eq am_G (am_run d) mt_r_ruleShape 10 156 [(0, 7, 0)] [] σ
set_option maxRecDepth 100000 in
theorem e_r_ruleShape_177 (d : Nat) (σ : ga_S) (s0 : Int) : r_ruleShape_177 d σ s0 = r_ruleShape_178 d σ s0 :=
  ga_blk_eq am_G (am_run d) mt_r_ruleShape 1 177 [(0, 7, 0)] [(0, s0)] σ
set_option maxRecDepth 100000 in
theorem e_r_ruleShape_178 (d : Nat) (σ : ga_S) (v2 : Int) : r_ruleShape_178 d σ v2 = if v2 = 0 then
    some (0, σ)
  else
    r_ruleShape_193 d σ (σ fR_p 0 0) (σ fR_p 0 0) :=
  ga_blk_eq am_G (am_run d) mt_r_ruleShape 8 178 [(0, 7, 0), (2, 0, v2)] [] σ
set_option maxRecDepth 100000 in
theorem e_r_ruleShape_193 (d : Nat) (σ : ga_S) (v3 v4 : Int) : r_ruleShape_193 d σ v3 v4 = (c_r_is d σ v4 5).bind fun q9 =>
    if q9.1 = 0 then
      (c_r_is d q9.2 v4 3).bind fun q10 =>
        if q10.1 = 0 then
          (c_r_is d q10.2 v4 8).bind fun q11 =>
            if q11.1 = 0 then
              r_ruleShape_193 d q11.2 v3 (w32 (v4 + 1))
            else
              r_ruleShape_235 d q11.2 v3 v4
        else
          r_ruleShape_235 d q10.2 v3 v4
    else
      r_ruleShape_235 d q9.2 v3 v4 :=
  ga_blk_eq am_G (am_run d) mt_r_ruleShape 17 193 [(0, 7, 0), (3, 0, v3), (4, 0, v4)] [] σ
set_option maxRecDepth 100000 in
theorem e_r_ruleShape_235 (d : Nat) (σ : ga_S) (v3 v4 : Int) : r_ruleShape_235 d σ v3 v4 = (c_r_phraseShape d σ v3 v4).bind fun q12 =>
    ga_ck (q12.2 fR_phrases 0 0) 5000 (ga_ck (q12.2 fR_phrases 0 0) 5000 (if (q12.2 fR_bad 0 0) = (-1) then
          r_ruleShape_287 d (ga_up (ga_up (ga_up (ga_up q12.2 fR_phraseFrom 0 (q12.2 fR_phrases 0 0) v3) fR_phraseTo 0 (q12.2 fR_phrases 0 0) v4) fR_phrases 0 0 (w32 ((q12.2 fR_phrases 0 0) + 1))) fR_p 0 0 v4)
        else
          r_ruleShape_287 d (ga_up (ga_up (ga_up q12.2 fR_phraseFrom 0 (q12.2 fR_phrases 0 0) v3) fR_phraseTo 0 (q12.2 fR_phrases 0 0) v4) fR_phrases 0 0 (w32 ((q12.2 fR_phrases 0 0) + 1))))) :=
  ga_blk_eq am_G (am_run d) mt_r_ruleShape 29 235 [(0, 7, 0), (3, 0, v3), (4, 0, v4)] [] σ
set_option maxRecDepth 100000 in
theorem e_r_ruleShape_287 (d : Nat) (σ : ga_S) : r_ruleShape_287 d σ = (c_r_takes d σ 5).bind fun q13 =>
    r_ruleShape_178 d q13.2 q13.1 :=
  ga_blk_eq am_G (am_run d) mt_r_ruleShape 5 287 [(0, 7, 0)] [] σ
set_option maxRecDepth 100000 in
theorem e_r_testsAhead (d : Nat) (σ : ga_S) (a1 : Int) : c_r_testsAhead (d + 1) σ a1 = if (σ fR_bad 0 0) = (-1) then
    r_testsAhead_13 d σ 1
  else
    r_testsAhead_13 d σ 0 :=
  ga_blk_eq am_G (am_run d) mt_r_testsAhead 6 0 [(0, 7, 0), (1, 11, a1)] [] σ
set_option maxRecDepth 100000 in
theorem e_r_testsAhead_13 (d : Nat) (σ : ga_S) (s0 : Int) : r_testsAhead_13 d σ s0 = r_testsAhead_14 d σ s0 :=
  ga_blk_eq am_G (am_run d) mt_r_testsAhead 1 13 [(0, 7, 0)] [(0, s0)] σ
set_option maxRecDepth 100000 in
theorem e_r_testsAhead_14 (d : Nat) (σ : ga_S) (v2 : Int) : r_testsAhead_14 d σ v2 = if v2 = 0 then
    some (0, σ)
  else
    r_testsAhead_29 d σ (σ fR_p 0 0) (σ fR_p 0 0) :=
  ga_blk_eq am_G (am_run d) mt_r_testsAhead 8 14 [(0, 7, 0), (2, 0, v2)] [] σ
set_option maxRecDepth 100000 in
theorem e_r_testsAhead_29 (d : Nat) (σ : ga_S) (v3 v4 : Int) : r_testsAhead_29 d σ v3 v4 = (c_r_is d σ v4 25).bind fun q1 =>
    if q1.1 = 0 then
      (c_r_is d q1.2 v4 3).bind fun q2 =>
        if q2.1 = 0 then
          (c_r_is d q2.2 v4 6).bind fun q3 =>
            if q3.1 = 0 then
              (c_r_is d q3.2 v4 5).bind fun q4 =>
                if q4.1 = 0 then
                  (c_r_is d q4.2 v4 8).bind fun q5 =>
                    if q5.1 = 0 then
                      r_testsAhead_29 d q5.2 v3 (w32 (v4 + 1))
                    else
                      r_testsAhead_95 d q5.2 v3 v4
                else
                  r_testsAhead_95 d q4.2 v3 v4
            else
              r_testsAhead_95 d q3.2 v3 v4
        else
          r_testsAhead_95 d q2.2 v3 v4
    else
      r_testsAhead_95 d q1.2 v3 v4 :=
  ga_blk_eq am_G (am_run d) mt_r_testsAhead 27 29 [(0, 7, 0), (3, 0, v3), (4, 0, v4)] [] σ
set_option maxRecDepth 100000 in
theorem e_r_testsAhead_95 (d : Nat) (σ : ga_S) (v3 v4 : Int) : r_testsAhead_95 d σ v3 v4 = (c_r_testShape d σ v3 v4 0).bind fun q6 =>
    ga_ck (q6.2 fR_tests 0 0) 5000 (ga_ck (q6.2 fR_tests 0 0) 5000 (if (q6.2 fR_bad 0 0) = (-1) then
          r_testsAhead_148 d (ga_up (ga_up (ga_up (ga_up q6.2 fR_testFrom 0 (q6.2 fR_tests 0 0) v3) fR_testTo 0 (q6.2 fR_tests 0 0) v4) fR_tests 0 0 (w32 ((q6.2 fR_tests 0 0) + 1))) fR_p 0 0 v4)
        else
          r_testsAhead_148 d (ga_up (ga_up (ga_up q6.2 fR_testFrom 0 (q6.2 fR_tests 0 0) v3) fR_testTo 0 (q6.2 fR_tests 0 0) v4) fR_tests 0 0 (w32 ((q6.2 fR_tests 0 0) + 1))))) :=
  ga_blk_eq am_G (am_run d) mt_r_testsAhead 30 95 [(0, 7, 0), (3, 0, v3), (4, 0, v4)] [] σ
set_option maxRecDepth 100000 in
theorem e_r_testsAhead_148 (d : Nat) (σ : ga_S) : r_testsAhead_148 d σ = (c_r_takes d σ 25).bind fun q7 =>
    r_testsAhead_14 d q7.2 q7.1 :=
  ga_blk_eq am_G (am_run d) mt_r_testsAhead 5 148 [(0, 7, 0)] [] σ
set_option maxRecDepth 100000 in
theorem e_r_otherShape (d : Nat) (σ : ga_S) : c_r_otherShape (d + 1) σ = (c_r_is d σ 0 11).bind fun q1 =>
    if q1.1 = 0 then
      r_otherShape_74 d q1.2
    else
      (c_r_is d q1.2 1 34).bind fun q2 =>
        if q2.1 = 0 then
          r_otherShape_74 d q2.2
        else
          (c_r_take d (ga_up (ga_up q2.2 fR_sort 0 0 7) fR_p 0 0 2) 20).bind fun q3 =>
            (c_r_run d q3.2).bind fun q4 =>
              (c_r_take d q4.2 33).bind fun q5 =>
                (c_r_take d q5.2 11).bind fun q6 =>
                  (c_r_run d q6.2).bind fun q7 =>
                    (c_r_take d q7.2 35).bind fun q8 =>
                      some (0, q8.2) :=
  ga_blk_eq am_G (am_run d) mt_r_otherShape 37 0 [(0, 7, 0)] [] σ
set_option maxRecDepth 100000 in
theorem e_r_otherShape_74 (d : Nat) (σ : ga_S) : r_otherShape_74 d σ = (c_r_is d σ 0 11).bind fun q9 =>
    if q9.1 = 0 then
      r_otherShape_128 d q9.2
    else
      (c_r_is d q9.2 1 28).bind fun q10 =>
        if q10.1 = 0 then
          r_otherShape_128 d q10.2
        else
          (c_r_take d (ga_up (ga_up q10.2 fR_sort 0 0 8) fR_p 0 0 2) 16).bind fun q11 =>
            (c_r_name d q11.2).bind fun q12 =>
              (c_r_be d q12.2).bind fun q13 =>
                (c_r_run d q13.2).bind fun q14 =>
                  some (0, q14.2) :=
  ga_blk_eq am_G (am_run d) mt_r_otherShape 27 74 [(0, 7, 0)] [] σ
set_option maxRecDepth 100000 in
theorem e_r_otherShape_128 (d : Nat) (σ : ga_S) : r_otherShape_128 d σ = r_otherShape_130 d σ 0 :=
  ga_blk_eq am_G (am_run d) mt_r_otherShape 2 128 [(0, 7, 0)] [] σ
set_option maxRecDepth 100000 in
theorem e_r_otherShape_130 (d : Nat) (σ : ga_S) (v1 : Int) : r_otherShape_130 d σ v1 = (c_r_is d σ v1 13).bind fun q15 =>
    if q15.1 = 0 then
      (c_r_is d q15.2 v1 14).bind fun q16 =>
        if q16.1 = 0 then
          (c_r_is d q16.2 v1 21).bind fun q17 =>
            if q17.1 = 0 then
              (c_r_is d q17.2 v1 22).bind fun q18 =>
                if q18.1 = 0 then
                  (c_r_is d q18.2 v1 30).bind fun q19 =>
                    if q19.1 = 0 then
                      (c_r_is d q19.2 v1 3).bind fun q20 =>
                        if q20.1 = 0 then
                          (c_r_is d q20.2 v1 8).bind fun q21 =>
                            if q21.1 = 0 then
                              r_otherShape_130 d q21.2 (w32 (v1 + 1))
                            else
                              r_otherShape_213 d q21.2 v1
                        else
                          r_otherShape_213 d q20.2 v1
                    else
                      r_otherShape_213 d q19.2 v1
                else
                  r_otherShape_213 d q18.2 v1
            else
              r_otherShape_213 d q17.2 v1
        else
          r_otherShape_213 d q16.2 v1
    else
      r_otherShape_213 d q15.2 v1 :=
  ga_blk_eq am_G (am_run d) mt_r_otherShape 37 130 [(0, 7, 0), (1, 0, v1)] [] σ
set_option maxRecDepth 100000 in
theorem e_r_otherShape_213 (d : Nat) (σ : ga_S) (v1 : Int) : r_otherShape_213 d σ v1 = (c_r_is d σ v1 3).bind fun q22 =>
    if q22.1 = 0 then
      (c_r_is d q22.2 v1 8).bind fun q23 =>
        if q23.1 = 0 then
          ga_ck v1 5002 (if (q23.2 fT_kinds 0 v1) = 13 then
              r_otherShape_362 d (ga_up q23.2 fR_verb 0 0 (q23.2 fT_kinds 0 v1)) v1
            else
              if (q23.2 fT_kinds 0 v1) = 14 then
                r_otherShape_362 d (ga_up q23.2 fR_verb 0 0 (q23.2 fT_kinds 0 v1)) v1
              else
                (c_r_nameOfList d (ga_up q23.2 fR_verb 0 0 (q23.2 fT_kinds 0 v1))).bind fun q24 =>
                  if (q24.2 fR_verb 0 0) = 21 then
                    r_otherShape_513 d q24.2 17
                  else
                    if (q24.2 fR_verb 0 0) = 22 then
                      r_otherShape_513 d q24.2 18
                    else
                      r_otherShape_513 d q24.2 19)
        else
          r_otherShape_235 d q23.2 v1
    else
      r_otherShape_235 d q22.2 v1 :=
  ga_blk_eq am_G (am_run d) mt_r_otherShape 38 213 [(0, 7, 0), (1, 0, v1)] [] σ
set_option maxRecDepth 100000 in
theorem e_r_otherShape_235 (d : Nat) (σ : ga_S) (v1 : Int) : r_otherShape_235 d σ v1 = r_otherShape_241 d (ga_up σ fR_sort 0 0 20) v1 :=
  ga_blk_eq am_G (am_run d) mt_r_otherShape 3 235 [(0, 7, 0), (1, 0, v1)] [] σ
set_option maxRecDepth 100000 in
theorem e_r_otherShape_362 (d : Nat) (σ : ga_S) (v1 : Int) : r_otherShape_362 d σ v1 = (c_r_is d σ 0 11).bind fun q25 =>
    if q25.1 = 0 then
      r_otherShape_441 d q25.2
    else
      (c_r_isFree d q25.2 1).bind fun q26 =>
        if q26.1 = 0 then
          r_otherShape_441 d q26.2
        else
          (c_r_behindRun d q26.2 1).bind fun q27 =>
            if q27.1 < v1 then
              (c_r_behindRun d q27.2 1).bind fun q28 =>
                (c_r_is d q28.2 q28.1 16).bind fun q29 =>
                  if q29.1 = 0 then
                    r_otherShape_441 d q29.2
                  else
                    (c_r_run d (ga_up (ga_up q29.2 fR_sort 0 0 9) fR_p 0 0 1)).bind fun q30 =>
                      (c_r_take d q30.2 16).bind fun q31 =>
                        (c_r_nameOfList d q31.2).bind fun q32 =>
                          (c_r_be d q32.2).bind fun q33 =>
                            (c_r_what d q33.2).bind fun q34 =>
                              some (0, q34.2)
            else
              r_otherShape_441 d q27.2 :=
  ga_blk_eq am_G (am_run d) mt_r_otherShape 40 362 [(0, 7, 0), (1, 0, v1)] [] σ
set_option maxRecDepth 100000 in
theorem e_r_otherShape_513 (d : Nat) (σ : ga_S) (s0 : Int) : r_otherShape_513 d σ s0 = (c_r_take d (ga_up σ fR_sort 0 0 s0) (σ fR_verb 0 0)).bind fun q35 =>
    if (q35.2 fR_sort 0 0) = 17 then
      (c_r_needArticle d q35.2).bind fun q45 =>
        (c_r_run d q45.2).bind fun q46 =>
          (c_r_take d q46.2 26).bind fun q47 =>
            (c_r_run d q47.2).bind fun q48 =>
              some (0, q48.2)
    else
      if (q35.2 fR_sort 0 0) = 18 then
        (c_r_take d q35.2 23).bind fun q41 =>
          (c_r_run d q41.2).bind fun q42 =>
            (c_r_take d q42.2 24).bind fun q43 =>
              (c_r_run d q43.2).bind fun q44 =>
                some (0, q44.2)
      else
        (c_r_oneOrVarious d q35.2 1).bind fun q36 =>
          (c_r_run d q36.2).bind fun q37 =>
            (c_r_take d q37.2 20).bind fun q38 =>
              (c_r_oneOrVarious d q38.2 0).bind fun q39 =>
                (c_r_run d q39.2).bind fun q40 =>
                  some (0, q40.2) :=
  ga_blk_eq am_G (am_run d) mt_r_otherShape 29 513 [(0, 7, 0)] [(0, s0), (7, 0)] σ
set_option maxRecDepth 100000 in
theorem e_r_otherShape_241 (d : Nat) (σ : ga_S) (v1 : Int) : r_otherShape_241 d σ v1 = if (σ fR_p 0 0) < v1 then
    (c_r_isFree d σ (σ fR_p 0 0)).bind fun q49 =>
      if q49.1 = 0 then
        ga_ck (q49.2 fR_p 0 0) 5002 (ga_nn (q49.2 fT_kinds 0 (q49.2 fR_p 0 0)) ((c_k_isArticle d q49.2 (q49.2 fT_kinds 0 (q49.2 fR_p 0 0))).bind fun q50 =>
              if q50.1 = 0 then
                (c_r_is d q50.2 (q50.2 fR_p 0 0) 25).bind fun q51 =>
                  if q51.1 = 0 then
                    (c_r_is d q51.2 (q51.2 fR_p 0 0) 4).bind fun q52 =>
                      if q52.1 = 0 then
                        r_otherShape_319 d q52.2 v1
                      else
                        r_otherShape_306 d q52.2 v1
                  else
                    r_otherShape_306 d q51.2 v1
              else
                r_otherShape_306 d q50.2 v1))
      else
        r_otherShape_306 d q49.2 v1
  else
    r_otherShape_319 d σ v1 :=
  ga_blk_eq am_G (am_run d) mt_r_otherShape 29 241 [(0, 7, 0), (1, 0, v1)] [] σ
set_option maxRecDepth 100000 in
theorem e_r_otherShape_441 (d : Nat) (σ : ga_S) : r_otherShape_441 d σ = r_otherShape_443 d σ 1 :=
  ga_blk_eq am_G (am_run d) mt_r_otherShape 2 441 [(0, 7, 0)] [] σ
set_option maxRecDepth 100000 in
theorem e_r_otherShape_319 (d : Nat) (σ : ga_S) (v1 : Int) : r_otherShape_319 d σ v1 = if v1 = 0 then
    (c_r_wrong d σ).bind fun q53 =>
      some (0, q53.2)
  else
    some (0, σ) :=
  ga_blk_eq am_G (am_run d) mt_r_otherShape 6 319 [(0, 7, 0), (1, 0, v1)] [] σ
set_option maxRecDepth 100000 in
theorem e_r_otherShape_306 (d : Nat) (σ : ga_S) (v1 : Int) : r_otherShape_306 d σ v1 = r_otherShape_241 d (ga_up σ fR_p 0 0 (w32 ((σ fR_p 0 0) + 1))) v1 :=
  ga_blk_eq am_G (am_run d) mt_r_otherShape 7 306 [(0, 7, 0), (1, 0, v1)] [] σ
set_option maxRecDepth 100000 in
theorem e_r_otherShape_443 (d : Nat) (σ : ga_S) (v2 : Int) : r_otherShape_443 d σ v2 = if v2 = 0 then
    (c_r_be d σ).bind fun q54 =>
      if (q54.2 fR_bad 0 0) = (-1) then
        (c_r_beShape d q54.2).bind fun q55 =>
          some (0, q55.2)
      else
        some (0, q54.2)
  else
    (c_r_nameOfList d σ).bind fun q56 =>
      (c_r_separator d q56.2).bind fun q57 =>
        r_otherShape_443 d q57.2 q57.1 :=
  ga_blk_eq am_G (am_run d) mt_r_otherShape 11 443 [(0, 7, 0), (2, 0, v2)] [] σ
set_option maxRecDepth 100000 in
theorem e_r_behindRun (d : Nat) (σ : ga_S) (a1 : Int) : c_r_behindRun (d + 1) σ a1 = r_behindRun_2 d σ a1 :=
  ga_blk_eq am_G (am_run d) mt_r_behindRun 2 0 [(0, 7, 0), (1, 0, a1)] [] σ
set_option maxRecDepth 100000 in
theorem e_r_behindRun_2 (d : Nat) (σ : ga_S) (v2 : Int) : r_behindRun_2 d σ v2 = (c_r_isFree d σ v2).bind fun q1 =>
    if q1.1 = 0 then
      some (v2, q1.2)
    else
      r_behindRun_2 d q1.2 (w32 (v2 + 1)) :=
  ga_blk_eq am_G (am_run d) mt_r_behindRun 6 2 [(0, 7, 0), (2, 0, v2)] [] σ
set_option maxRecDepth 100000 in
theorem e_r_nameOfList (d : Nat) (σ : ga_S) : c_r_nameOfList (d + 1) σ = (c_r_article d σ).bind fun q1 =>
    (c_r_run d q1.2).bind fun q2 =>
      if (q2.2 fR_bad 0 0) = (-1) then
        ga_ck (σ fR_runs 0 0) 5000 (ga_ck (q2.2 fR_names 0 0) 5000 (ga_ck (σ fR_runs 0 0) 5000 (ga_ck (q2.2 fR_names 0 0) 5000 (r_nameOfList_61 d (ga_up (ga_up (ga_up q2.2 fR_nameFrom 0 (q2.2 fR_names 0 0) (q2.2 fR_runFrom 0 (σ fR_runs 0 0))) fR_nameTo 0 (q2.2 fR_names 0 0) (q2.2 fR_runTo 0 (σ fR_runs 0 0))) fR_names 0 0 (w32 ((q2.2 fR_names 0 0) + 1))) (σ fR_runs 0 0)))))
      else
        r_nameOfList_61 d q2.2 (σ fR_runs 0 0) :=
  ga_blk_eq am_G (am_run d) mt_r_nameOfList 35 0 [(0, 7, 0)] [] σ
set_option maxRecDepth 100000 in
theorem e_r_nameOfList_61 (d : Nat) (σ : ga_S) (v1 : Int) : r_nameOfList_61 d σ v1 = some (0, (ga_up σ fR_runs 0 0 v1)) :=
  ga_blk_eq am_G (am_run d) mt_r_nameOfList 4 61 [(0, 7, 0), (1, 0, v1)] [] σ
set_option maxRecDepth 100000 in
theorem e_r_beShape (d : Nat) (σ : ga_S) : c_r_beShape (d + 1) σ = ga_ck (σ fR_p 0 0) 5002 (if (σ fT_kinds 0 (σ fR_p 0 0)) = 8 then
      r_beShape_27 d σ (σ fT_kinds 0 (σ fR_p 0 0))
    else
      if (σ fT_kinds 0 (σ fR_p 0 0)) = 3 then
        r_beShape_27 d σ (σ fT_kinds 0 (σ fR_p 0 0))
      else
        ga_ck (w32 ((σ fR_p 0 0) + 1)) 5002 (r_beShape_47 d σ (σ fT_kinds 0 (σ fR_p 0 0)) (σ fT_kinds 0 (w32 ((σ fR_p 0 0) + 1))))) :=
  ga_blk_eq am_G (am_run d) mt_r_beShape 21 0 [(0, 7, 0)] [] σ
set_option maxRecDepth 100000 in
theorem e_r_beShape_27 (d : Nat) (σ : ga_S) (v1 : Int) : r_beShape_27 d σ v1 = r_beShape_47 d σ v1 8 :=
  ga_blk_eq am_G (am_run d) mt_r_beShape 2 27 [(0, 7, 0), (1, 11, v1)] [] σ
set_option maxRecDepth 100000 in
theorem e_r_beShape_47 (d : Nat) (σ : ga_S) (v1 s0 : Int) : r_beShape_47 d σ v1 s0 = if v1 = 9 then
    if s0 = 27 then
      (c_r_takes d (ga_up (ga_up σ fR_sort 0 0 10) fR_p 0 0 (w32 ((σ fR_p 0 0) + 2))) 16).bind fun q1 =>
        if q1.1 = 0 then
          some (0, q1.2)
        else
          (c_r_takes d q1.2 29).bind fun q2 =>
            ga_01 q2.1 (if q2.1 = 0 then
                (c_r_name d (ga_up q2.2 fR_isValue 0 0 q2.1)).bind fun q3 =>
                  some (0, q3.2)
              else
                some (0, (ga_up q2.2 fR_isValue 0 0 q2.1)))
    else
      r_beShape_113 d σ v1 s0
  else
    r_beShape_113 d σ v1 s0 :=
  ga_blk_eq am_G (am_run d) mt_r_beShape 32 47 [(0, 7, 0), (1, 11, v1)] [(11, s0)] σ
set_option maxRecDepth 100000 in
theorem e_r_beShape_113 (d : Nat) (σ : ga_S) (v1 v2 : Int) : r_beShape_113 d σ v1 v2 = if v1 = 10 then
    if v2 = 36 then
      (c_r_takes d (ga_up (ga_up σ fR_sort 0 0 11) fR_p 0 0 (w32 ((σ fR_p 0 0) + 2))) 37).bind fun q4 =>
        if q4.1 = 0 then
          some (0, q4.2)
        else
          (c_r_take d q4.2 20).bind fun q5 =>
            (c_r_take d q5.2 31).bind fun q6 =>
              (c_r_run d q6.2).bind fun q7 =>
                some (0, q7.2)
    else
      r_beShape_176 d σ v1
  else
    r_beShape_176 d σ v1 :=
  ga_blk_eq am_G (am_run d) mt_r_beShape 31 113 [(0, 7, 0), (1, 11, v1), (2, 11, v2)] [] σ
set_option maxRecDepth 100000 in
theorem e_r_beShape_176 (d : Nat) (σ : ga_S) (v1 : Int) : r_beShape_176 d σ v1 = ga_nn v1 ((c_k_isArticle d σ v1).bind fun q8 =>
      if q8.1 = 0 then
        (c_r_isPlace d q8.2).bind fun q9 =>
          if q9.1 = 0 then
            if v1 = 15 then
              r_beShape_259 d q9.2 v1
            else
              if v1 = 41 then
                r_beShape_259 d q9.2 v1
              else
                (c_r_run d q9.2).bind fun q10 =>
                  (c_r_takes d (ga_up q10.2 fR_sort 0 0 15) 16).bind fun q11 =>
                    if q11.1 = 0 then
                      r_beShape_347 d q11.2
                    else
                      (c_r_name d (ga_up q11.2 fR_sort 0 0 14)).bind fun q12 =>
                        some (0, q12.2)
          else
            (c_r_placed d (ga_up q9.2 fR_sort 0 0 13)).bind fun q13 =>
              some (0, q13.2)
      else
        (c_r_run d (ga_up (ga_up q8.2 fR_sort 0 0 12) fR_p 0 0 (w32 ((q8.2 fR_p 0 0) + 1)))).bind fun q14 =>
          if (q14.2 fR_bad 0 0) = (-1) then
            (c_r_isPlace d q14.2).bind fun q15 =>
              if q15.1 = 0 then
                some (0, q15.2)
              else
                (c_r_placed d q15.2).bind fun q16 =>
                  some (0, q16.2)
          else
            some (0, q14.2)) :=
  ga_blk_eq am_G (am_run d) mt_r_beShape 28 176 [(0, 7, 0), (1, 11, v1)] [] σ
set_option maxRecDepth 100000 in
theorem e_r_beShape_259 (d : Nat) (σ : ga_S) (v1 : Int) : r_beShape_259 d σ v1 = if v1 = 15 then
    r_beShape_278 d (ga_up σ fR_sort 0 0 15) 1
  else
    r_beShape_278 d (ga_up σ fR_sort 0 0 15) 0 :=
  ga_blk_eq am_G (am_run d) mt_r_beShape 9 259 [(0, 7, 0), (1, 11, v1)] [] σ
set_option maxRecDepth 100000 in
theorem e_r_beShape_347 (d : Nat) (σ : ga_S) : r_beShape_347 d σ = if (σ fR_bad 0 0) = (-1) then
    (c_r_separator d σ).bind fun q17 =>
      if q17.1 = 0 then
        some (0, q17.2)
      else
        (c_r_run d (ga_up q17.2 fR_sort 0 0 16)).bind fun q18 =>
          r_beShape_347 d q18.2
  else
    some (0, σ) :=
  ga_blk_eq am_G (am_run d) mt_r_beShape 13 347 [(0, 7, 0)] [] σ
set_option maxRecDepth 100000 in
theorem e_r_beShape_278 (d : Nat) (σ : ga_S) (s0 : Int) : r_beShape_278 d σ s0 = ga_01 s0 (if s0 = 0 then
      r_beShape_294 d (ga_up σ fR_not 0 0 s0) 1
    else
      r_beShape_294 d (ga_up σ fR_not 0 0 s0) 0) :=
  ga_blk_eq am_G (am_run d) mt_r_beShape 7 278 [(0, 7, 0)] [(0, s0), (7, 0)] σ
set_option maxRecDepth 100000 in
theorem e_r_beShape_294 (d : Nat) (σ : ga_S) (s0 : Int) : r_beShape_294 d σ s0 = ga_01 s0 ((c_r_run d (ga_up (ga_up σ fR_usually 0 0 s0) fR_p 0 0 (w32 ((σ fR_p 0 0) + 1)))).bind fun q19 =>
      some (0, q19.2)) :=
  ga_blk_eq am_G (am_run d) mt_r_beShape 11 294 [(0, 7, 0)] [(0, s0), (7, 0)] σ
set_option maxRecDepth 100000 in
theorem e_r_thing (d : Nat) (σ : ga_S) : c_r_thing (d + 1) σ = if (σ fR_bad 0 0) = (-1) then
    (c_r_is d (ga_up σ fR_thingFrom 0 0 (σ fR_p 0 0)) (σ fR_p 0 0) 63).bind fun q1 =>
      if q1.1 = 0 then
        (c_r_is d q1.2 (q1.2 fR_p 0 0) 62).bind fun q2 =>
          if q2.1 = 0 then
            (c_r_is d q2.2 (q2.2 fR_p 0 0) 11).bind fun q3 =>
              if q3.1 = 0 then
                r_thing_101 d q3.2
              else
                (c_r_is d q3.2 (w32 ((q3.2 fR_p 0 0) + 1)) 62).bind fun q4 =>
                  if q4.1 = 0 then
                    r_thing_101 d q4.2
                  else
                    r_thing_115 d (ga_up q4.2 fR_p 0 0 (w32 ((q4.2 fR_p 0 0) + 2)))
          else
            r_thing_45 d q2.2
      else
        r_thing_45 d q1.2
  else
    some (0, σ) :=
  ga_blk_eq am_G (am_run d) mt_r_thing 41 0 [(0, 7, 0)] [] σ
set_option maxRecDepth 100000 in
theorem e_r_thing_45 (d : Nat) (σ : ga_S) : r_thing_45 d σ = r_thing_115 d (ga_up σ fR_p 0 0 (w32 ((σ fR_p 0 0) + 1))) :=
  ga_blk_eq am_G (am_run d) mt_r_thing 7 45 [(0, 7, 0)] [] σ
set_option maxRecDepth 100000 in
theorem e_r_thing_101 (d : Nat) (σ : ga_S) : r_thing_101 d σ = (c_r_name d σ).bind fun q5 =>
    r_thing_115 d (ga_up q5.2 fR_runs 0 0 (σ fR_runs 0 0)) :=
  ga_blk_eq am_G (am_run d) mt_r_thing 8 101 [(0, 7, 0)] [] σ
set_option maxRecDepth 100000 in
theorem e_r_thing_115 (d : Nat) (σ : ga_S) : r_thing_115 d σ = some (0, (ga_up σ fR_thingTo 0 0 (σ fR_p 0 0))) :=
  ga_blk_eq am_G (am_run d) mt_r_thing 5 115 [(0, 7, 0)] [] σ
set_option maxRecDepth 100000 in
theorem e_r_end (d : Nat) (σ : ga_S) (a1 : Int) : c_r_end (d + 1) σ a1 = if (σ fR_bad 0 0) = (-1) then
    if (σ fR_p 0 0) = a1 then
      some (0, σ)
    else
      (c_r_wrong d σ).bind fun q1 =>
        some (0, q1.2)
  else
    some (0, σ) :=
  ga_blk_eq am_G (am_run d) mt_r_end 12 0 [(0, 7, 0), (1, 0, a1)] [] σ
set_option maxRecDepth 100000 in
theorem e_r_testShape (d : Nat) (σ : ga_S) (a1 a2 a3 : Int) : c_r_testShape (d + 1) σ a1 a2 a3 = if (σ fR_bad 0 0) = (-1) then
    r_testShape_22 d (ga_up (ga_up σ fR_p 0 0 a1) fR_isNot 0 0 0) a1 a2 a3 a1
  else
    some (0, σ) :=
  ga_blk_eq am_G (am_run d) mt_r_testShape 12 0 [(0, 7, 0), (1, 0, a1), (2, 0, a2), (3, 0, a3)] [] σ
set_option maxRecDepth 100000 in
theorem e_r_testShape_22 (d : Nat) (σ : ga_S) (v1 v2 v3 v4 : Int) : r_testShape_22 d σ v1 v2 v3 v4 = if v4 < v2 then
    (c_r_is d σ v4 13).bind fun q1 =>
      if q1.1 = 0 then
        r_testShape_22 d q1.2 v1 v2 v3 (w32 (v4 + 1))
      else
        r_testShape_46 d q1.2 v1 v2 v3 v4
  else
    r_testShape_46 d σ v1 v2 v3 v4 :=
  ga_blk_eq am_G (am_run d) mt_r_testShape 10 22 [(0, 7, 0), (1, 0, v1), (2, 0, v2), (3, 0, v3), (4, 0, v4)] [] σ
set_option maxRecDepth 100000 in
theorem e_r_testShape_46 (d : Nat) (σ : ga_S) (v1 v2 v3 v4 : Int) : r_testShape_46 d σ v1 v2 v3 v4 = if v4 = v2 then
    r_testShape_57 d (ga_up σ fR_form 0 0 4) v1 v2
  else
    (c_r_is d σ (σ fR_p 0 0) 11).bind fun q2 =>
      if q2.1 = 0 then
        r_testShape_205 d q2.2 v2 v3 v4
      else
        (c_r_isFree d q2.2 (w32 ((q2.2 fR_p 0 0) + 1))).bind fun q3 =>
          if q3.1 = 0 then
            r_testShape_205 d q3.2 v2 v3 v4
          else
            (c_r_behindRun d q3.2 (w32 ((q3.2 fR_p 0 0) + 1))).bind fun q4 =>
              (c_r_is d q4.2 q4.1 16).bind fun q5 =>
                if q5.1 = 0 then
                  r_testShape_205 d q5.2 v2 v3 v4
                else
                  r_testShape_206 d q5.2 v2 v3 v4 1 :=
  ga_blk_eq am_G (am_run d) mt_r_testShape 28 46 [(0, 7, 0), (1, 0, v1), (2, 0, v2), (3, 0, v3), (4, 0, v4)] [] σ
set_option maxRecDepth 100000 in
theorem e_r_testShape_205 (d : Nat) (σ : ga_S) (v2 v3 v4 : Int) : r_testShape_205 d σ v2 v3 v4 = r_testShape_206 d σ v2 v3 v4 0 :=
  ga_blk_eq am_G (am_run d) mt_r_testShape 1 205 [(0, 7, 0), (2, 0, v2), (3, 0, v3), (4, 0, v4)] [] σ
set_option maxRecDepth 100000 in
theorem e_r_testShape_206 (d : Nat) (σ : ga_S) (v2 v3 v4 s0 : Int) : r_testShape_206 d σ v2 v3 v4 s0 = if s0 = 0 then
    r_testShape_261 d σ v2 v3 v4 s0
  else
    (c_r_behindRun d (ga_up (ga_up σ fR_p 0 0 (w32 ((σ fR_p 0 0) + 1))) fR_propertyFrom 0 0 (w32 ((σ fR_p 0 0) + 1))) (w32 ((σ fR_p 0 0) + 1))).bind fun q6 =>
      r_testShape_261 d (ga_up (ga_up (ga_up q6.2 fR_p 0 0 q6.1) fR_propertyTo 0 0 q6.1) fR_p 0 0 (w32 (q6.1 + 1))) v2 v3 v4 s0 :=
  ga_blk_eq am_G (am_run d) mt_r_testShape 29 206 [(0, 7, 0), (2, 0, v2), (3, 0, v3), (4, 0, v4)] [(0, s0)] σ
set_option maxRecDepth 100000 in
theorem e_r_testShape_57 (d : Nat) (σ : ga_S) (v1 v2 : Int) : r_testShape_57 d σ v1 v2 = if (σ fR_p 0 0) < v2 then
    (c_r_isFree d σ (σ fR_p 0 0)).bind fun q7 =>
      if q7.1 = 0 then
        ga_ck (q7.2 fR_p 0 0) 5002 (ga_nn (q7.2 fT_kinds 0 (q7.2 fR_p 0 0)) ((c_k_isArticle d q7.2 (q7.2 fT_kinds 0 (q7.2 fR_p 0 0))).bind fun q8 =>
              if q8.1 = 0 then
                (c_r_is d q8.2 (q8.2 fR_p 0 0) 63).bind fun q9 =>
                  if q9.1 = 0 then
                    (c_r_is d q9.2 (q9.2 fR_p 0 0) 62).bind fun q10 =>
                      if q10.1 = 0 then
                        r_testShape_135 d q10.2 v1 v2
                      else
                        r_testShape_122 d q10.2 v1 v2
                  else
                    r_testShape_122 d q9.2 v1 v2
              else
                r_testShape_122 d q8.2 v1 v2))
      else
        r_testShape_122 d q7.2 v1 v2
  else
    r_testShape_135 d σ v1 v2 :=
  ga_blk_eq am_G (am_run d) mt_r_testShape 29 57 [(0, 7, 0), (1, 0, v1), (2, 0, v2)] [] σ
set_option maxRecDepth 100000 in
theorem e_r_testShape_261 (d : Nat) (σ : ga_S) (v2 v3 v4 v5 : Int) : r_testShape_261 d σ v2 v3 v4 v5 = (c_r_thing d σ).bind fun q11 =>
    (c_r_end d q11.2 v4).bind fun q12 =>
      (c_r_take d q12.2 13).bind fun q13 =>
        if v5 = 0 then
          (c_r_takes d q13.2 15).bind fun q14 =>
            ga_01 q14.1 (if v3 = 0 then
                if (q14.2 fR_bad 0 0) = (-1) then
                  (c_r_isPlace d (ga_up (ga_up q14.2 fR_isNot 0 0 q14.1) fR_behindFrom 0 0 (q14.2 fR_p 0 0))).bind fun q15 =>
                    if q15.1 = 0 then
                      r_testShape_507 d q15.2 v2
                    else
                      (c_r_placeWords d (ga_up q15.2 fR_form 0 0 1)).bind fun q16 =>
                        (c_r_thing d q16.2).bind fun q17 =>
                          r_testShape_528 d (ga_up (ga_up (ga_up (ga_up q17.2 fR_placeFrom 0 0 (q17.2 fR_thingFrom 0 0)) fR_placeTo 0 0 (q17.2 fR_thingTo 0 0)) fR_thingFrom 0 0 (q16.2 fR_thingFrom 0 0)) fR_thingTo 0 0 (q16.2 fR_thingTo 0 0)) v2
                else
                  r_testShape_507 d (ga_up (ga_up q14.2 fR_isNot 0 0 q14.1) fR_behindFrom 0 0 (q14.2 fR_p 0 0)) v2
              else
                r_testShape_507 d (ga_up (ga_up q14.2 fR_isNot 0 0 q14.1) fR_behindFrom 0 0 (q14.2 fR_p 0 0)) v2)
        else
          if v3 = 0 then
            (c_r_is d q13.2 (q13.2 fR_p 0 0) 60).bind fun q18 =>
              if q18.1 = 0 then
                (c_r_is d q18.2 (q18.2 fR_p 0 0) 61).bind fun q19 =>
                  if q19.1 = 0 then
                    r_testShape_358 d q19.2 v2 v3
                  else
                    r_testShape_316 d q19.2 v2
              else
                r_testShape_316 d q18.2 v2
          else
            r_testShape_358 d q13.2 v2 v3 :=
  ga_blk_eq am_G (am_run d) mt_r_testShape 57 261 [(0, 7, 0), (2, 0, v2), (3, 0, v3), (4, 0, v4), (5, 0, v5)] [] σ
set_option maxRecDepth 100000 in
theorem e_r_testShape_135 (d : Nat) (σ : ga_S) (v1 v2 : Int) : r_testShape_135 d σ v1 v2 = if (σ fR_p 0 0) < v2 then
    r_testShape_148 d σ
  else
    if v1 = v2 then
      r_testShape_148 d σ
    else
      some (0, σ) :=
  ga_blk_eq am_G (am_run d) mt_r_testShape 8 135 [(0, 7, 0), (1, 0, v1), (2, 0, v2)] [] σ
set_option maxRecDepth 100000 in
theorem e_r_testShape_122 (d : Nat) (σ : ga_S) (v1 v2 : Int) : r_testShape_122 d σ v1 v2 = r_testShape_57 d (ga_up σ fR_p 0 0 (w32 ((σ fR_p 0 0) + 1))) v1 v2 :=
  ga_blk_eq am_G (am_run d) mt_r_testShape 7 122 [(0, 7, 0), (1, 0, v1), (2, 0, v2)] [] σ
set_option maxRecDepth 100000 in
theorem e_r_testShape_507 (d : Nat) (σ : ga_S) (v2 : Int) : r_testShape_507 d σ v2 = (c_r_run d (ga_up σ fR_form 0 0 0)).bind fun q20 =>
    r_testShape_528 d (ga_up q20.2 fR_runs 0 0 (σ fR_runs 0 0)) v2 :=
  ga_blk_eq am_G (am_run d) mt_r_testShape 11 507 [(0, 7, 0), (2, 0, v2)] [] σ
set_option maxRecDepth 100000 in
theorem e_r_testShape_528 (d : Nat) (σ : ga_S) (v2 : Int) : r_testShape_528 d σ v2 = (c_r_end d σ v2).bind fun q21 =>
    some (0, q21.2) :=
  ga_blk_eq am_G (am_run d) mt_r_testShape 4 528 [(0, 7, 0), (2, 0, v2)] [] σ
set_option maxRecDepth 100000 in
theorem e_r_testShape_358 (d : Nat) (σ : ga_S) (v2 v3 : Int) : r_testShape_358 d σ v2 v3 = if v3 = 0 then
    (c_r_takes d (ga_up σ fR_form 0 0 2) 15).bind fun q22 =>
      if q22.1 = 0 then
        r_testShape_382 d q22.2 v2
      else
        r_testShape_383 d q22.2 v2 1
  else
    r_testShape_382 d (ga_up σ fR_form 0 0 2) v2 :=
  ga_blk_eq am_G (am_run d) mt_r_testShape 12 358 [(0, 7, 0), (2, 0, v2), (3, 0, v3)] [] σ
set_option maxRecDepth 100000 in
theorem e_r_testShape_316 (d : Nat) (σ : ga_S) (v2 : Int) : r_testShape_316 d σ v2 = (c_r_take d (ga_up (ga_up (ga_up σ fR_form 0 0 3) fR_behindFrom 0 0 (σ fR_p 0 0)) fR_p 0 0 (w32 ((σ fR_p 0 0) + 1))) 59).bind fun q23 =>
    (c_r_take d q23.2 1).bind fun q24 =>
      r_testShape_528 d q24.2 v2 :=
  ga_blk_eq am_G (am_run d) mt_r_testShape 22 316 [(0, 7, 0), (2, 0, v2)] [] σ
set_option maxRecDepth 100000 in
theorem e_r_testShape_148 (d : Nat) (σ : ga_S) : r_testShape_148 d σ = (c_r_wrong d σ).bind fun q25 =>
    some (0, q25.2) :=
  ga_blk_eq am_G (am_run d) mt_r_testShape 4 148 [(0, 7, 0)] [] σ
set_option maxRecDepth 100000 in
theorem e_r_testShape_382 (d : Nat) (σ : ga_S) (v2 : Int) : r_testShape_382 d σ v2 = r_testShape_383 d σ v2 0 :=
  ga_blk_eq am_G (am_run d) mt_r_testShape 1 382 [(0, 7, 0), (2, 0, v2)] [(7, 0)] σ
set_option maxRecDepth 100000 in
theorem e_r_testShape_383 (d : Nat) (σ : ga_S) (v2 s0 : Int) : r_testShape_383 d σ v2 s0 = ga_01 s0 ((c_r_what d (ga_up (ga_up σ fR_isNot 0 0 s0) fR_behindFrom 0 0 (σ fR_p 0 0))).bind fun q26 =>
      r_testShape_528 d (ga_up q26.2 fR_runs 0 0 (σ fR_runs 0 0)) v2) :=
  ga_blk_eq am_G (am_run d) mt_r_testShape 14 383 [(0, 7, 0), (2, 0, v2)] [(0, s0), (7, 0)] σ
set_option maxRecDepth 100000 in
theorem e_r_phraseShape (d : Nat) (σ : ga_S) (a1 a2 : Int) : c_r_phraseShape (d + 1) σ a1 a2 = if (σ fR_bad 0 0) = (-1) then
    ga_ck a1 5002 (ga_nn (σ fT_kinds 0 a1) ((p_ord d (ga_up σ fR_p 0 0 a1) (σ fT_kinds 0 a1)).bind fun q1 =>
          if q1.1 = 52 then
            (c_r_take d (ga_up q1.2 fR_p 0 0 (w32 ((q1.2 fR_p 0 0) + 1))) 2).bind fun q23 =>
              r_phraseShape_349 d q23.2 a2 (σ fR_runs 0 0)
          else
            if q1.1 = 53 then
              (c_r_testShape d q1.2 (w32 (a1 + 1)) a2 1).bind fun q22 =>
                r_phraseShape_349 d q22.2 a2 (σ fR_runs 0 0)
            else
              if q1.1 = 54 then
                (c_r_thing d (ga_up q1.2 fR_p 0 0 (w32 ((q1.2 fR_p 0 0) + 1)))).bind fun q19 =>
                  (c_r_take d (ga_up (ga_up q19.2 fR_placeFrom 0 0 (q19.2 fR_thingFrom 0 0)) fR_placeTo 0 0 (q19.2 fR_thingTo 0 0)) 20).bind fun q20 =>
                    (c_r_thing d q20.2).bind fun q21 =>
                      r_phraseShape_349 d q21.2 a2 (σ fR_runs 0 0)
              else
                if q1.1 = 55 then
                  (c_r_take d (ga_up q1.2 fR_p 0 0 (w32 ((q1.2 fR_p 0 0) + 1))) 11).bind fun q13 =>
                    (c_r_run d (ga_up q13.2 fR_propertyFrom 0 0 (q13.2 fR_p 0 0))).bind fun q14 =>
                      (c_r_take d (ga_up q14.2 fR_propertyTo 0 0 (q14.2 fR_p 0 0)) 16).bind fun q15 =>
                        (c_r_thing d q15.2).bind fun q16 =>
                          (c_r_take d q16.2 19).bind fun q17 =>
                            (c_r_take d (ga_up q17.2 fR_behindFrom 0 0 (q17.2 fR_p 0 0)) 1).bind fun q18 =>
                              r_phraseShape_349 d q18.2 a2 (σ fR_runs 0 0)
                else
                  if q1.1 = 56 then
                    (c_r_take d (ga_up q1.2 fR_p 0 0 (w32 ((q1.2 fR_p 0 0) + 1))) 11).bind fun q7 =>
                      (c_r_run d (ga_up q7.2 fR_propertyFrom 0 0 (q7.2 fR_p 0 0))).bind fun q8 =>
                        (c_r_take d (ga_up q8.2 fR_propertyTo 0 0 (q8.2 fR_p 0 0)) 16).bind fun q9 =>
                          (c_r_thing d q9.2).bind fun q10 =>
                            (c_r_take d q10.2 19).bind fun q11 =>
                              (c_r_take d (ga_up q11.2 fR_behindFrom 0 0 (q11.2 fR_p 0 0)) 1).bind fun q12 =>
                                r_phraseShape_349 d q12.2 a2 (σ fR_runs 0 0)
                  else
                    if q1.1 = 57 then
                      r_phraseShape_349 d (ga_up q1.2 fR_p 0 0 (w32 ((q1.2 fR_p 0 0) + 1))) a2 (σ fR_runs 0 0)
                    else
                      if q1.1 = 58 then
                        (c_r_run d (ga_up (ga_up q1.2 fR_p 0 0 (w32 ((q1.2 fR_p 0 0) + 1))) fR_propertyFrom 0 0 (w32 ((q1.2 fR_p 0 0) + 1)))).bind fun q3 =>
                          if (q3.2 fR_bad 0 0) = (-1) then
                            if (q3.2 fR_p 0 0) < a2 then
                              ga_ck (q3.2 fR_p 0 0) 5002 (ga_nn (q3.2 fT_kinds 0 (q3.2 fR_p 0 0)) ((c_k_isArticle d (ga_up (ga_up q3.2 fR_propertyTo 0 0 (q3.2 fR_p 0 0)) fR_thingFrom 0 0 (-1)) (q3.2 fT_kinds 0 (q3.2 fR_p 0 0))).bind fun q4 =>
                                    if q4.1 = 0 then
                                      (c_r_is d q4.2 (q4.2 fR_p 0 0) 63).bind fun q5 =>
                                        if q5.1 = 0 then
                                          (c_r_is d q5.2 (q5.2 fR_p 0 0) 62).bind fun q6 =>
                                            if q6.1 = 0 then
                                              r_phraseShape_349 d q6.2 a2 (σ fR_runs 0 0)
                                            else
                                              r_phraseShape_324 d q6.2 a2 (σ fR_runs 0 0)
                                        else
                                          r_phraseShape_324 d q5.2 a2 (σ fR_runs 0 0)
                                    else
                                      r_phraseShape_324 d q4.2 a2 (σ fR_runs 0 0)))
                            else
                              r_phraseShape_349 d (ga_up (ga_up q3.2 fR_propertyTo 0 0 (q3.2 fR_p 0 0)) fR_thingFrom 0 0 (-1)) a2 (σ fR_runs 0 0)
                          else
                            r_phraseShape_349 d (ga_up (ga_up q3.2 fR_propertyTo 0 0 (q3.2 fR_p 0 0)) fR_thingFrom 0 0 (-1)) a2 (σ fR_runs 0 0)
                      else
                        (c_r_wrong d q1.2).bind fun q2 =>
                          r_phraseShape_349 d q2.2 a2 (σ fR_runs 0 0)))
  else
    some (0, σ) :=
  ga_blk_eq am_G (am_run d) mt_r_phraseShape 64 0 [(0, 7, 0), (1, 0, a1), (2, 0, a2)] [] σ
set_option maxRecDepth 100000 in
theorem e_r_phraseShape_349 (d : Nat) (σ : ga_S) (v2 v3 : Int) : r_phraseShape_349 d σ v2 v3 = (c_r_end d (ga_up σ fR_runs 0 0 v3) v2).bind fun q24 =>
    some (0, q24.2) :=
  ga_blk_eq am_G (am_run d) mt_r_phraseShape 7 349 [(0, 7, 0), (2, 0, v2), (3, 0, v3)] [] σ
set_option maxRecDepth 100000 in
theorem e_r_phraseShape_324 (d : Nat) (σ : ga_S) (v2 v3 : Int) : r_phraseShape_324 d σ v2 v3 = (c_r_thing d σ).bind fun q25 =>
    r_phraseShape_349 d q25.2 v2 v3 :=
  ga_blk_eq am_G (am_run d) mt_r_phraseShape 3 324 [(0, 7, 0), (2, 0, v2), (3, 0, v3)] [] σ
set_option maxRecDepth 100000 in
theorem e_r_note (d : Nat) (σ : ga_S) (a1 a2 : Int) : c_r_note (d + 1) σ a1 a2 = ga_ck a2 5002 (if a1 = 9 then
      r_note_49 d σ a1 (σ fT_places 0 a2) 0
    else
      if a1 = 3 then
        r_note_49 d σ a1 (σ fT_places 0 a2) 1
      else
        if a1 = 4 then
          r_note_49 d σ a1 (σ fT_places 0 a2) 2
        else
          if a1 = 7 then
            r_note_49 d σ a1 (σ fT_places 0 a2) 3
          else
            r_note_49 d σ a1 (σ fT_places 0 a2) 4) :=
  ga_blk_eq am_G (am_run d) mt_r_note 20 0 [(0, 7, 0), (1, 0, a1), (2, 0, a2)] [] σ
set_option maxRecDepth 100000 in
theorem e_r_note_49 (d : Nat) (σ : ga_S) (v1 v3 s0 : Int) : r_note_49 d σ v1 v3 s0 = if (σ fR_fault 0 0) = 0 then
    r_note_83 d σ v1 v3 s0
  else
    if v3 < (σ fR_where 0 0) then
      r_note_83 d σ v1 v3 s0
    else
      if v3 = (σ fR_where 0 0) then
        if s0 < (σ fR_rank 0 0) then
          r_note_83 d σ v1 v3 s0
        else
          some (0, σ)
      else
        some (0, σ) :=
  ga_blk_eq am_G (am_run d) mt_r_note 17 49 [(0, 7, 0), (1, 0, v1), (3, 0, v3)] [(0, s0)] σ
set_option maxRecDepth 100000 in
theorem e_r_note_83 (d : Nat) (σ : ga_S) (v1 v3 v4 : Int) : r_note_83 d σ v1 v3 v4 = some (0, (ga_up (ga_up (ga_up σ fR_fault 0 0 v1) fR_where 0 0 v3) fR_rank 0 0 v4)) :=
  ga_blk_eq am_G (am_run d) mt_r_note 10 83 [(0, 7, 0), (1, 0, v1), (3, 0, v3), (4, 0, v4)] [] σ
set_option maxRecDepth 100000 in
theorem e_r_mean (d : Nat) (σ : ga_S) (a1 a2 a3 : Int) : c_r_mean (d + 1) σ a1 a2 a3 = (c_d_spellT d σ 0 a1 a2).bind fun q1 =>
    (c_d_of d q1.2 a3).bind fun q2 =>
      some (q2.1, q2.2) :=
  ga_blk_eq am_G (am_run d) mt_r_mean 12 0 [(0, 7, 0), (1, 0, a1), (2, 0, a2), (3, 0, a3)] [] σ
set_option maxRecDepth 100000 in
theorem e_r_need (d : Nat) (σ : ga_S) (a1 a2 a3 : Int) : c_r_need (d + 1) σ a1 a2 a3 = (c_r_mean d σ a1 a2 a3).bind fun q1 =>
    if q1.1 = (-1) then
      (c_r_note d q1.2 4 a1).bind fun q2 =>
        some (q1.1, q2.2)
    else
      some (q1.1, q1.2) :=
  ga_blk_eq am_G (am_run d) mt_r_need 15 0 [(0, 7, 0), (1, 0, a1), (2, 0, a2), (3, 0, a3)] [] σ
set_option maxRecDepth 100000 in
theorem e_r_kindNamed (d : Nat) (σ : ga_S) (a1 a2 : Int) : c_r_kindNamed (d + 1) σ a1 a2 = (c_r_mean d σ a1 a2 0).bind fun q1 =>
    (c_d_of d q1.2 11).bind fun q2 =>
      if q1.1 = (-1) then
        if q2.1 < 100 then
          some (q2.1, q2.2)
        else
          some ((-1), q2.2)
      else
        some (q1.1, q2.2) :=
  ga_blk_eq am_G (am_run d) mt_r_kindNamed 20 0 [(0, 7, 0), (1, 0, a1), (2, 0, a2)] [] σ
set_option maxRecDepth 100000 in
theorem e_r_needKind (d : Nat) (σ : ga_S) (a1 a2 : Int) : c_r_needKind (d + 1) σ a1 a2 = (c_r_kindNamed d σ a1 a2).bind fun q1 =>
    if q1.1 = (-1) then
      (c_r_note d q1.2 4 a1).bind fun q2 =>
        some (q1.1, q2.2)
    else
      some (q1.1, q1.2) :=
  ga_blk_eq am_G (am_run d) mt_r_needKind 14 0 [(0, 7, 0), (1, 0, a1), (2, 0, a2)] [] σ
set_option maxRecDepth 100000 in
theorem e_r_typeNamed (d : Nat) (σ : ga_S) (a1 a2 : Int) : c_r_typeNamed (d + 1) σ a1 a2 = (c_r_mean d σ a1 a2 1).bind fun q1 =>
    (c_d_of d q1.2 11).bind fun q2 =>
      if q1.1 = (-1) then
        if q2.1 < 100 then
          some ((-1), q2.2)
        else
          some ((w32 (q2.1 - 100)), q2.2)
      else
        some (q1.1, q2.2) :=
  ga_blk_eq am_G (am_run d) mt_r_typeNamed 22 0 [(0, 7, 0), (1, 0, a1), (2, 0, a2)] [] σ
set_option maxRecDepth 100000 in
theorem e_r_isSame (d : Nat) (σ : ga_S) (a1 a2 a3 a4 : Int) : c_r_isSame (d + 1) σ a1 a2 a3 a4 = if (w32 (a2 - a1)) = (w32 (a4 - a3)) then
    r_isSame_15 d σ a1 a2 a3 1
  else
    r_isSame_15 d σ a1 a2 a3 0 :=
  ga_blk_eq am_G (am_run d) mt_r_isSame 9 0 [(0, 7, 0), (1, 0, a1), (2, 0, a2), (3, 0, a3), (4, 0, a4)] [] σ
set_option maxRecDepth 100000 in
theorem e_r_isSame_15 (d : Nat) (σ : ga_S) (v1 v2 v3 s0 : Int) : r_isSame_15 d σ v1 v2 v3 s0 = r_isSame_20 d σ v1 v2 v3 s0 0 :=
  ga_blk_eq am_G (am_run d) mt_r_isSame 3 15 [(0, 7, 0), (1, 0, v1), (2, 0, v2), (3, 0, v3)] [(0, s0)] σ
set_option maxRecDepth 100000 in
theorem e_r_isSame_20 (d : Nat) (σ : ga_S) (v1 v2 v3 v5 v6 : Int) : r_isSame_20 d σ v1 v2 v3 v5 v6 = if v6 < (w32 (v2 - v1)) then
    if v5 = 0 then
      ga_01 v5 (some (v5, σ))
    else
      ga_ck (w32 (v1 + v6)) 5002 (ga_ck (w32 (v3 + v6)) 5002 (if (σ fT_lengths 0 (w32 (v1 + v6))) = (σ fT_lengths 0 (w32 (v3 + v6))) then
            r_isSame_65 d σ v1 v2 v3 v6 1
          else
            r_isSame_65 d σ v1 v2 v3 v6 0))
  else
    ga_01 v5 (some (v5, σ)) :=
  ga_blk_eq am_G (am_run d) mt_r_isSame 24 20 [(0, 7, 0), (1, 0, v1), (2, 0, v2), (3, 0, v3), (5, 0, v5), (6, 0, v6)] [] σ
set_option maxRecDepth 100000 in
theorem e_r_isSame_65 (d : Nat) (σ : ga_S) (v1 v2 v3 v6 s0 : Int) : r_isSame_65 d σ v1 v2 v3 v6 s0 = r_isSame_70 d σ v1 v2 v3 s0 v6 0 :=
  ga_blk_eq am_G (am_run d) mt_r_isSame 3 65 [(0, 7, 0), (1, 0, v1), (2, 0, v2), (3, 0, v3), (6, 0, v6)] [(0, s0)] σ
set_option maxRecDepth 100000 in
theorem e_r_isSame_70 (d : Nat) (σ : ga_S) (v1 v2 v3 v5 v6 v7 : Int) : r_isSame_70 d σ v1 v2 v3 v5 v6 v7 = ga_ck (w32 (v1 + v6)) 5002 (if v7 < (σ fT_lengths 0 (w32 (v1 + v6))) then
      if v5 = 0 then
        r_isSame_152 d σ v1 v2 v3 v5 v6
      else
        ga_ck (w32 (v1 + v6)) 5002 ((c_t_low d σ 0 (w32 ((σ fT_places 0 (w32 (v1 + v6))) + v7))).bind fun q1 =>
            ga_ck (w32 (v3 + v6)) 5002 ((c_t_low d q1.2 0 (w32 ((q1.2 fT_places 0 (w32 (v3 + v6))) + v7))).bind fun q2 =>
                if q1.1 = q2.1 then
                  r_isSame_144 d q2.2 v1 v2 v3 v6 v7 1
                else
                  r_isSame_144 d q2.2 v1 v2 v3 v6 v7 0))
    else
      r_isSame_152 d σ v1 v2 v3 v5 v6) :=
  ga_blk_eq am_G (am_run d) mt_r_isSame 38 70 [(0, 7, 0), (1, 0, v1), (2, 0, v2), (3, 0, v3), (5, 0, v5), (6, 0, v6), (7, 0, v7)] [] σ
set_option maxRecDepth 100000 in
theorem e_r_isSame_152 (d : Nat) (σ : ga_S) (v1 v2 v3 v5 v6 : Int) : r_isSame_152 d σ v1 v2 v3 v5 v6 = r_isSame_20 d σ v1 v2 v3 v5 (w32 (v6 + 1)) :=
  ga_blk_eq am_G (am_run d) mt_r_isSame 2 152 [(0, 7, 0), (1, 0, v1), (2, 0, v2), (3, 0, v3), (5, 0, v5), (6, 0, v6)] [] σ
set_option maxRecDepth 100000 in
theorem e_r_isSame_144 (d : Nat) (σ : ga_S) (v1 v2 v3 v6 v7 s0 : Int) : r_isSame_144 d σ v1 v2 v3 v6 v7 s0 = r_isSame_70 d σ v1 v2 v3 s0 v6 (w32 (v7 + 1)) :=
  ga_blk_eq am_G (am_run d) mt_r_isSame 3 144 [(0, 7, 0), (1, 0, v1), (2, 0, v2), (3, 0, v3), (6, 0, v6), (7, 0, v7)] [(0, s0)] σ
set_option maxRecDepth 100000 in
theorem e_r_isNew (d : Nat) (σ : ga_S) (a1 a2 a3 a4 : Int) : c_r_isNew (d + 1) σ a1 a2 a3 a4 = (c_d_spellT d σ 0 a1 a2).bind fun q1 =>
    if 3 < (w32 (a2 - a1)) then
      r_isNew_31 d q1.2 a1 a2 a3 a4
    else
      (c_d_find d q1.2).bind fun q2 =>
        if q2.1 = (-1) then
          r_isNew_36 d q2.2 a1 a2 a3 a4 0
        else
          r_isNew_31 d q2.2 a1 a2 a3 a4 :=
  ga_blk_eq am_G (am_run d) mt_r_isNew 18 0 [(0, 7, 0), (1, 0, a1), (2, 0, a2), (3, 0, a3), (4, 0, a4)] [] σ
set_option maxRecDepth 100000 in
theorem e_r_isNew_31 (d : Nat) (σ : ga_S) (v1 v2 v3 v4 : Int) : r_isNew_31 d σ v1 v2 v3 v4 = r_isNew_36 d σ v1 v2 v3 v4 1 :=
  ga_blk_eq am_G (am_run d) mt_r_isNew 2 31 [(0, 7, 0), (1, 0, v1), (2, 0, v2), (3, 0, v3), (4, 0, v4)] [] σ
set_option maxRecDepth 100000 in
theorem e_r_isNew_36 (d : Nat) (σ : ga_S) (v1 v2 v3 v4 s0 : Int) : r_isNew_36 d σ v1 v2 v3 v4 s0 = r_isNew_41 d σ v1 v2 v3 v4 s0 0 :=
  ga_blk_eq am_G (am_run d) mt_r_isNew 3 36 [(0, 7, 0), (1, 0, v1), (2, 0, v2), (3, 0, v3), (4, 0, v4)] [(0, s0)] σ
set_option maxRecDepth 100000 in
theorem e_r_isNew_41 (d : Nat) (σ : ga_S) (v1 v2 v3 v4 v5 v6 : Int) : r_isNew_41 d σ v1 v2 v3 v4 v5 v6 = if v6 < (σ fR_newNames 0 0) then
    if v5 = 0 then
      ga_ck v6 5000 (ga_ck v6 5000 ((c_r_isSame d σ (σ fR_newFrom 0 v6) (σ fR_newTo 0 v6) v1 v2).bind fun q3 =>
            r_isNew_41 d q3.2 v1 v2 v3 v4 q3.1 (w32 (v6 + 1))))
    else
      r_isNew_83 d σ v1 v2 v3 v4 v5
  else
    r_isNew_83 d σ v1 v2 v3 v4 v5 :=
  ga_blk_eq am_G (am_run d) mt_r_isNew 21 41 [(0, 7, 0), (1, 0, v1), (2, 0, v2), (3, 0, v3), (4, 0, v4), (5, 0, v5), (6, 0, v6)] [] σ
set_option maxRecDepth 100000 in
theorem e_r_isNew_83 (d : Nat) (σ : ga_S) (v1 v2 v3 v4 v5 : Int) : r_isNew_83 d σ v1 v2 v3 v4 v5 = if v5 = 0 then
    if v3 < v4 then
      r_isNew_110 d σ v1 v2
    else
      (c_r_note d σ 9 v1).bind fun q4 =>
        r_isNew_110 d q4.2 v1 v2
  else
    (c_r_note d σ 3 v1).bind fun q5 =>
      r_isNew_110 d q5.2 v1 v2 :=
  ga_blk_eq am_G (am_run d) mt_r_isNew 9 83 [(0, 7, 0), (1, 0, v1), (2, 0, v2), (3, 0, v3), (4, 0, v4), (5, 0, v5)] [] σ
set_option maxRecDepth 100000 in
theorem e_r_isNew_110 (d : Nat) (σ : ga_S) (v1 v2 : Int) : r_isNew_110 d σ v1 v2 = ga_ck (σ fR_newNames 0 0) 5000 (ga_ck (σ fR_newNames 0 0) 5000 (some (0, (ga_up (ga_up (ga_up σ fR_newFrom 0 (σ fR_newNames 0 0) v1) fR_newTo 0 (σ fR_newNames 0 0) v2) fR_newNames 0 0 (w32 ((σ fR_newNames 0 0) + 1)))))) :=
  ga_blk_eq am_G (am_run d) mt_r_isNew 19 110 [(0, 7, 0), (1, 0, v1), (2, 0, v2)] [] σ
set_option maxRecDepth 100000 in
theorem e_r_objectsOrNew (d : Nat) (σ : ga_S) (a1 a2 : Int) : c_r_objectsOrNew (d + 1) σ a1 a2 = r_objectsOrNew_5 d σ a1 a2 0 0 :=
  ga_blk_eq am_G (am_run d) mt_r_objectsOrNew 4 0 [(0, 7, 0), (1, 0, a1), (2, 0, a2)] [] σ
set_option maxRecDepth 100000 in
theorem e_r_objectsOrNew_5 (d : Nat) (σ : ga_S) (v1 v2 v3 v4 : Int) : r_objectsOrNew_5 d σ v1 v2 v3 v4 = if v4 < v2 then
    ga_ck v4 5000 (ga_ck v4 5000 ((c_d_spellT d σ 0 (σ fR_nameFrom 0 v4) (σ fR_nameTo 0 v4)).bind fun q1 =>
          (c_d_sort d q1.2).bind fun q2 =>
            if q2.1 = (-1) then
              if v1 = 0 then
                r_objectsOrNew_90 d q2.2 v1 v2 v3 v4 q2.1
              else
                ga_ck v4 5000 (ga_ck v4 5000 ((c_r_isNew d q2.2 (q2.2 fR_nameFrom 0 v4) (q2.2 fR_nameTo 0 v4) (w32 ((q2.2 fW_objects 0 0) + v3)) 24).bind fun q3 =>
                      r_objectsOrNew_108 d q3.2 v1 v2 (w32 (v3 + 1)) v4))
            else
              r_objectsOrNew_90 d q2.2 v1 v2 v3 v4 q2.1))
  else
    some (0, σ) :=
  ga_blk_eq am_G (am_run d) mt_r_objectsOrNew 43 5 [(0, 7, 0), (1, 0, v1), (2, 0, v2), (3, 0, v3), (4, 0, v4)] [] σ
set_option maxRecDepth 100000 in
theorem e_r_objectsOrNew_90 (d : Nat) (σ : ga_S) (v1 v2 v3 v4 v5 : Int) : r_objectsOrNew_90 d σ v1 v2 v3 v4 v5 = if v5 = 2 then
    r_objectsOrNew_108 d σ v1 v2 v3 v4
  else
    ga_ck v4 5000 ((c_r_note d σ 4 (σ fR_nameFrom 0 v4)).bind fun q4 =>
        r_objectsOrNew_108 d q4.2 v1 v2 v3 v4) :=
  ga_blk_eq am_G (am_run d) mt_r_objectsOrNew 10 90 [(0, 7, 0), (1, 0, v1), (2, 0, v2), (3, 0, v3), (4, 0, v4), (5, 0, v5)] [] σ
set_option maxRecDepth 100000 in
theorem e_r_objectsOrNew_108 (d : Nat) (σ : ga_S) (v1 v2 v3 v4 : Int) : r_objectsOrNew_108 d σ v1 v2 v3 v4 = r_objectsOrNew_5 d σ v1 v2 v3 (w32 (v4 + 1)) :=
  ga_blk_eq am_G (am_run d) mt_r_objectsOrNew 2 108 [(0, 7, 0), (1, 0, v1), (2, 0, v2), (3, 0, v3), (4, 0, v4)] [] σ
set_option maxRecDepth 100000 in
theorem e_r_objectAt (d : Nat) (σ : ga_S) (a1 : Int) : c_r_objectAt (d + 1) σ a1 = ga_ck a1 5000 (ga_ck a1 5000 ((c_r_mean d σ (σ fR_nameFrom 0 a1) (σ fR_nameTo 0 a1) 2).bind fun q1 =>
        some (q1.1, q1.2))) :=
  ga_blk_eq am_G (am_run d) mt_r_objectAt 12 0 [(0, 7, 0), (1, 0, a1)] [] σ
set_option maxRecDepth 100000 in
theorem e_r_adjective (d : Nat) (σ : ga_S) (a1 a2 a3 a4 a5 : Int) : c_r_adjective (d + 1) σ a1 a2 a3 a4 a5 = (c_r_mean d σ a1 a2 3).bind fun q1 =>
    if a4 = 0 then
      (c_d_of d (ga_up q1.2 fR_foundAdjective 0 0 q1.1) 4).bind fun q2 =>
        r_adjective_29 d q2.2 a3 a5 q2.1
    else
      r_adjective_29 d (ga_up q1.2 fR_foundAdjective 0 0 q1.1) a3 a5 (-1) :=
  ga_blk_eq am_G (am_run d) mt_r_adjective 14 0 [(0, 7, 0), (1, 0, a1), (2, 0, a2), (3, 0, a3), (4, 0, a4), (5, 0, a5)] [] σ
set_option maxRecDepth 100000 in
theorem e_r_adjective_29 (d : Nat) (σ : ga_S) (v3 v5 s0 : Int) : r_adjective_29 d σ v3 v5 s0 = if (σ fR_foundAdjective 0 0) = (-1) then
    if s0 = (-1) then
      some (0, (ga_up (ga_up σ fR_foundValue 0 0 s0) fR_foundProperty 0 0 (-1)))
    else
      ga_ck s0 64 ((c_w_propertyOf d (ga_up (ga_up σ fR_foundValue 0 0 s0) fR_foundProperty 0 0 (-1)) v3 (σ fW_valueTypes 0 s0)).bind fun q3 =>
          if q3.1 = (-1) then
            some (0, (ga_up q3.2 fR_foundProperty 0 0 q3.1))
          else
            if q3.1 = (-2) then
              some (2, (ga_up q3.2 fR_foundProperty 0 0 q3.1))
            else
              some (1, (ga_up q3.2 fR_foundProperty 0 0 q3.1)))
  else
    ga_ck (σ fR_foundAdjective 0 0) 24 ((c_w_isBelow d (ga_up (ga_up σ fR_foundValue 0 0 s0) fR_foundProperty 0 0 (-1)) v3 (σ fW_adjectiveKinds 0 (σ fR_foundAdjective 0 0))).bind fun q4 =>
        if q4.1 = 0 then
          r_adjective_93 d q4.2
        else
          if v5 = 0 then
            ga_ck (q4.2 fR_foundAdjective 0 0) 24 (if (q4.2 fW_contraries 0 (q4.2 fR_foundAdjective 0 0)) = (-1) then
                r_adjective_93 d q4.2
              else
                r_adjective_89 d q4.2)
          else
            r_adjective_89 d q4.2) :=
  ga_blk_eq am_G (am_run d) mt_r_adjective 35 29 [(0, 7, 0), (3, 0, v3), (5, 0, v5)] [(0, s0), (7, 0)] σ
set_option maxRecDepth 100000 in
theorem e_r_adjective_93 (d : Nat) (σ : ga_S) : r_adjective_93 d σ = r_adjective_94 d σ 0 :=
  ga_blk_eq am_G (am_run d) mt_r_adjective 1 93 [] [] σ
set_option maxRecDepth 100000 in
theorem e_r_adjective_89 (d : Nat) (σ : ga_S) : r_adjective_89 d σ = r_adjective_94 d σ 1 :=
  ga_blk_eq am_G (am_run d) mt_r_adjective 2 89 [] [] σ
set_option maxRecDepth 100000 in
theorem e_r_adjective_94 (d : Nat) (σ : ga_S) (s0 : Int) : r_adjective_94 d σ s0 = if s0 = 0 then
    some (0, σ)
  else
    some (1, σ) :=
  ga_blk_eq am_G (am_run d) mt_r_adjective 6 94 [] [(0, s0)] σ
set_option maxRecDepth 100000 in
theorem e_r_ways (d : Nat) (σ : ga_S) (a1 a2 a3 a4 a5 : Int) : c_r_ways (d + 1) σ a1 a2 a3 a4 a5 = if a1 = a2 then
    some (1, σ)
  else
    r_ways_15 d σ a1 a2 a3 a4 a5 0 (w32 (a1 + 1)) :=
  ga_blk_eq am_G (am_run d) mt_r_ways 9 0 [(0, 7, 0), (1, 0, a1), (2, 0, a2), (3, 0, a3), (4, 0, a4), (5, 0, a5)] [] σ
set_option maxRecDepth 100000 in
theorem e_r_ways_15 (d : Nat) (σ : ga_S) (v1 v2 v3 v4 v5 v6 v7 : Int) : r_ways_15 d σ v1 v2 v3 v4 v5 v6 v7 = if v2 < v7 then
    some (v6, σ)
  else
    (c_r_adjective d σ v1 v7 v3 0 v5).bind fun q1 =>
      if 0 < q1.1 then
        if (q1.2 fR_foundAdjective 0 0) = (-1) then
          r_ways_58 d q1.2 v1 v2 v3 v4 v5 v6 v7 q1.1 (q1.2 fR_foundProperty 0 0)
        else
          r_ways_58 d q1.2 v1 v2 v3 v4 v5 v6 v7 q1.1 (q1.2 fR_foundAdjective 0 0)
      else
        r_ways_147 d q1.2 v1 v2 v3 v4 v5 v6 v7 :=
  ga_blk_eq am_G (am_run d) mt_r_ways 20 15 [(0, 7, 0), (1, 0, v1), (2, 0, v2), (3, 0, v3), (4, 0, v4), (5, 0, v5), (6, 0, v6), (7, 0, v7)] [] σ
set_option maxRecDepth 100000 in
theorem e_r_ways_147 (d : Nat) (σ : ga_S) (v1 v2 v3 v4 v5 v6 v7 : Int) : r_ways_147 d σ v1 v2 v3 v4 v5 v6 v7 = r_ways_15 d σ v1 v2 v3 v4 v5 v6 (w32 (v7 + 1)) :=
  ga_blk_eq am_G (am_run d) mt_r_ways 2 147 [(0, 7, 0), (1, 0, v1), (2, 0, v2), (3, 0, v3), (4, 0, v4), (5, 0, v5), (6, 0, v6), (7, 0, v7)] [] σ
set_option maxRecDepth 100000 in
theorem e_r_ways_58 (d : Nat) (σ : ga_S) (v1 v2 v3 v4 v5 v6 v7 v8 s0 : Int) : r_ways_58 d σ v1 v2 v3 v4 v5 v6 v7 v8 s0 = if (σ fR_foundAdjective 0 0) = (-1) then
    r_ways_76 d σ v1 v2 v3 v4 v5 v6 v7 v8 s0 (σ fR_foundValue 0 0)
  else
    r_ways_76 d σ v1 v2 v3 v4 v5 v6 v7 v8 s0 (-1) :=
  ga_blk_eq am_G (am_run d) mt_r_ways 7 58 [(0, 7, 0), (1, 0, v1), (2, 0, v2), (3, 0, v3), (4, 0, v4), (5, 0, v5), (6, 0, v6), (7, 0, v7), (8, 0, v8)] [(0, s0)] σ
set_option maxRecDepth 100000 in
theorem e_r_ways_76 (d : Nat) (σ : ga_S) (v1 v2 v3 v4 v5 v6 v7 v8 v9 s0 : Int) : r_ways_76 d σ v1 v2 v3 v4 v5 v6 v7 v8 v9 s0 = (c_r_ways d σ v7 v2 v3 (w32 (v4 + 1)) v5).bind fun q2 =>
    if 0 < q2.1 then
      if v6 = 0 then
        ga_ck v4 8 (ga_ck v4 8 ((p_max d (ga_up (ga_up q2.2 fR_describedWhich 0 v4 v9) fR_describedValue 0 v4 s0) (q2.2 fR_described 0 0) (w32 (v4 + 1))).bind fun q3 =>
              r_ways_137 d (ga_up q3.2 fR_described 0 0 q3.1) v1 v2 v3 v4 v5 v6 v7 v8 q2.1))
      else
        r_ways_137 d q2.2 v1 v2 v3 v4 v5 v6 v7 v8 q2.1
    else
      r_ways_147 d q2.2 v1 v2 v3 v4 v5 v6 v7 :=
  ga_blk_eq am_G (am_run d) mt_r_ways 33 76 [(0, 7, 0), (1, 0, v1), (2, 0, v2), (3, 0, v3), (4, 0, v4), (5, 0, v5), (6, 0, v6), (7, 0, v7), (8, 0, v8), (9, 0, v9)] [(0, s0)] σ
set_option maxRecDepth 100000 in
theorem e_r_ways_137 (d : Nat) (σ : ga_S) (v1 v2 v3 v4 v5 v6 v7 v8 v11 : Int) : r_ways_137 d σ v1 v2 v3 v4 v5 v6 v7 v8 v11 = r_ways_147 d σ v1 v2 v3 v4 v5 (w32 (v6 + (w32 (v8 * v11)))) v7 :=
  ga_blk_eq am_G (am_run d) mt_r_ways 6 137 [(0, 7, 0), (1, 0, v1), (2, 0, v2), (3, 0, v3), (4, 0, v4), (5, 0, v5), (6, 0, v6), (7, 0, v7), (8, 0, v8), (11, 0, v11)] [] σ
set_option maxRecDepth 100000 in
theorem e_r_description (d : Nat) (σ : ga_S) (a1 a2 a3 a4 a5 : Int) : c_r_description (d + 1) σ a1 a2 a3 a4 a5 = if 6 < (w32 (a2 - a1)) then
    some (0, σ)
  else
    r_description_16 d σ a1 a2 a3 a4 a5 0 a1 :=
  ga_blk_eq am_G (am_run d) mt_r_description 9 0 [(0, 7, 0), (1, 0, a1), (2, 0, a2), (3, 0, a3), (4, 0, a4), (5, 0, a5)] [] σ
set_option maxRecDepth 100000 in
theorem e_r_description_16 (d : Nat) (σ : ga_S) (v1 v2 v3 v4 v5 v6 v7 : Int) : r_description_16 d σ v1 v2 v3 v4 v5 v6 v7 = if v7 < v2 then
    if v3 = 0 then
      r_description_36 d σ v1 v2 v3 v4 v5 v6 v7 0 v2 v7
    else
      r_description_36 d σ v1 v2 v3 v4 v5 v6 v7 11 v2 v7
  else
    some (v6, σ) :=
  ga_blk_eq am_G (am_run d) mt_r_description 10 16 [(0, 7, 0), (1, 0, v1), (2, 0, v2), (3, 0, v3), (4, 0, v4), (5, 0, v5), (6, 0, v6), (7, 0, v7)] [] σ
set_option maxRecDepth 100000 in
theorem e_r_description_36 (d : Nat) (σ : ga_S) (v1 v2 v3 v4 v5 v6 v7 s0 s1 s2 : Int) : r_description_36 d σ v1 v2 v3 v4 v5 v6 v7 s0 s1 s2 = (c_r_mean d σ s2 s1 s0).bind fun q1 =>
    if q1.1 = (-1) then
      r_description_141 d q1.2 v1 v2 v3 v4 v5 v6 v7
    else
      if q1.1 < 100 then
        if v5 = (-1) then
          r_description_74 d q1.2 v1 v2 v3 v4 v5 v6 v7 q1.1
        else
          (c_w_isBelow d q1.2 q1.1 v5).bind fun q2 =>
            if q2.1 = 0 then
              r_description_141 d q2.2 v1 v2 v3 v4 v5 v6 v7
            else
              r_description_74 d q2.2 v1 v2 v3 v4 v5 v6 v7 q1.1
      else
        r_description_141 d q1.2 v1 v2 v3 v4 v5 v6 v7 :=
  ga_blk_eq am_G (am_run d) mt_r_description 17 36 [(0, 7, 0), (1, 0, v1), (2, 0, v2), (3, 0, v3), (4, 0, v4), (5, 0, v5), (6, 0, v6), (7, 0, v7)] [(0, s0), (0, s1), (0, s2), (7, 0)] σ
set_option maxRecDepth 100000 in
theorem e_r_description_141 (d : Nat) (σ : ga_S) (v1 v2 v3 v4 v5 v6 v7 : Int) : r_description_141 d σ v1 v2 v3 v4 v5 v6 v7 = r_description_16 d σ v1 v2 v3 v4 v5 v6 (w32 (v7 + 1)) :=
  ga_blk_eq am_G (am_run d) mt_r_description 2 141 [(0, 7, 0), (1, 0, v1), (2, 0, v2), (3, 0, v3), (4, 0, v4), (5, 0, v5), (6, 0, v6), (7, 0, v7)] [] σ
set_option maxRecDepth 100000 in
theorem e_r_description_74 (d : Nat) (σ : ga_S) (v1 v2 v3 v4 v5 v6 v7 v8 : Int) : r_description_74 d σ v1 v2 v3 v4 v5 v6 v7 v8 = if v6 = 0 then
    r_description_90 d (ga_up σ fR_described 0 0 0) v1 v2 v3 v4 v5 v6 v7 v8 (σ fR_described 0 0)
  else
    r_description_90 d σ v1 v2 v3 v4 v5 v6 v7 v8 (σ fR_described 0 0) :=
  ga_blk_eq am_G (am_run d) mt_r_description 8 74 [(0, 7, 0), (1, 0, v1), (2, 0, v2), (3, 0, v3), (4, 0, v4), (5, 0, v5), (6, 0, v6), (7, 0, v7), (8, 0, v8)] [] σ
set_option maxRecDepth 100000 in
theorem e_r_description_90 (d : Nat) (σ : ga_S) (v1 v2 v3 v4 v5 v6 v7 v8 v9 : Int) : r_description_90 d σ v1 v2 v3 v4 v5 v6 v7 v8 v9 = (c_r_ways d σ v1 v7 v8 0 v4).bind fun q3 =>
    if v6 = 0 then
      if 0 < q3.1 then
        r_description_134 d (ga_up q3.2 fR_describedKind 0 0 v8) v1 v2 v3 v4 v5 v6 v7 q3.1
      else
        r_description_123 d q3.2 v1 v2 v3 v4 v5 v6 v7 v9 q3.1
    else
      r_description_123 d q3.2 v1 v2 v3 v4 v5 v6 v7 v9 q3.1 :=
  ga_blk_eq am_G (am_run d) mt_r_description 16 90 [(0, 7, 0), (1, 0, v1), (2, 0, v2), (3, 0, v3), (4, 0, v4), (5, 0, v5), (6, 0, v6), (7, 0, v7), (8, 0, v8), (9, 0, v9)] [] σ
set_option maxRecDepth 100000 in
theorem e_r_description_123 (d : Nat) (σ : ga_S) (v1 v2 v3 v4 v5 v6 v7 v9 v10 : Int) : r_description_123 d σ v1 v2 v3 v4 v5 v6 v7 v9 v10 = if 0 < v6 then
    r_description_134 d (ga_up σ fR_described 0 0 v9) v1 v2 v3 v4 v5 v6 v7 v10
  else
    r_description_134 d σ v1 v2 v3 v4 v5 v6 v7 v10 :=
  ga_blk_eq am_G (am_run d) mt_r_description 5 123 [(0, 7, 0), (1, 0, v1), (2, 0, v2), (3, 0, v3), (4, 0, v4), (5, 0, v5), (6, 0, v6), (7, 0, v7), (9, 0, v9), (10, 0, v10)] [] σ
set_option maxRecDepth 100000 in
theorem e_r_description_134 (d : Nat) (σ : ga_S) (v1 v2 v3 v4 v5 v6 v7 v10 : Int) : r_description_134 d σ v1 v2 v3 v4 v5 v6 v7 v10 = r_description_141 d σ v1 v2 v3 v4 v5 (w32 (v6 + v10)) v7 :=
  ga_blk_eq am_G (am_run d) mt_r_description 4 134 [(0, 7, 0), (1, 0, v1), (2, 0, v2), (3, 0, v3), (4, 0, v4), (5, 0, v5), (6, 0, v6), (7, 0, v7), (10, 0, v10)] [] σ
set_option maxRecDepth 100000 in
theorem e_r_needDescription (d : Nat) (σ : ga_S) (a1 a2 : Int) : c_r_needDescription (d + 1) σ a1 a2 = if a2 = 1 then
    some (0, σ)
  else
    if a2 = 0 then
      r_needDescription_16 d σ a1 4
    else
      r_needDescription_16 d σ a1 7 :=
  ga_blk_eq am_G (am_run d) mt_r_needDescription 8 0 [(0, 7, 0), (1, 0, a1), (2, 0, a2)] [] σ
set_option maxRecDepth 100000 in
theorem e_r_needDescription_16 (d : Nat) (σ : ga_S) (v1 s0 : Int) : r_needDescription_16 d σ v1 s0 = (c_r_note d σ s0 v1).bind fun q1 =>
    some (0, q1.2) :=
  ga_blk_eq am_G (am_run d) mt_r_needDescription 3 16 [(1, 0, v1)] [(0, s0), (7, 0)] σ
set_option maxRecDepth 100000 in
theorem e_r_thingOf (d : Nat) (σ : ga_S) (a1 a2 : Int) : c_r_thingOf (d + 1) σ a1 a2 = (c_r_is d σ a1 63).bind fun q1 =>
    if q1.1 = 0 then
      (c_r_is d q1.2 (w32 (a2 - 1)) 62).bind fun q2 =>
        if q2.1 = 0 then
          ga_ck a1 5002 (ga_nn (q2.2 fT_kinds 0 a1) ((c_k_isArticle d q2.2 (q2.2 fT_kinds 0 a1)).bind fun q3 =>
                if q3.1 = 0 then
                  r_thingOf_84 d q3.2 a2 0 a1
                else
                  r_thingOf_84 d q3.2 a2 1 a1))
        else
          if (q2.2 fR_nounKind 0 0) = (-1) then
            (c_r_note d q2.2 4 a1).bind fun q4 =>
              some ((-1), q4.2)
          else
            some ((-3), q2.2)
    else
      if (q1.2 fR_itKind 0 0) = (-1) then
        (c_r_note d q1.2 4 a1).bind fun q5 =>
          some ((-1), q5.2)
      else
        some ((-2), q1.2) :=
  ga_blk_eq am_G (am_run d) mt_r_thingOf 23 0 [(0, 7, 0), (1, 0, a1), (2, 0, a2)] [] σ
set_option maxRecDepth 100000 in
theorem e_r_thingOf_84 (d : Nat) (σ : ga_S) (v2 s0 s1 : Int) : r_thingOf_84 d σ v2 s0 s1 = (c_r_need d σ (w32 (s1 + s0)) v2 2).bind fun q6 =>
    some (q6.1, q6.2) :=
  ga_blk_eq am_G (am_run d) mt_r_thingOf 5 84 [(2, 0, v2)] [(0, s0), (0, s1), (7, 0)] σ
set_option maxRecDepth 100000 in
theorem e_r_kindOf (d : Nat) (σ : ga_S) (a1 : Int) : c_r_kindOf (d + 1) σ a1 = if a1 = (-2) then
    some ((σ fR_itKind 0 0), σ)
  else
    if a1 = (-3) then
      some ((σ fR_nounKind 0 0), σ)
    else
      ga_ck a1 24 (some ((σ fW_kindOf 0 a1), σ)) :=
  ga_blk_eq am_G (am_run d) mt_r_kindOf 12 0 [(0, 7, 0), (1, 0, a1)] [] σ
set_option maxRecDepth 100000 in
theorem e_r_isThing (d : Nat) (σ : ga_S) (a1 a2 : Int) : c_r_isThing (d + 1) σ a1 a2 = if a1 < a2 then
    if (w32 (a2 - a1)) = 1 then
      (c_r_is d σ a1 63).bind fun q1 =>
        if q1.1 = 0 then
          r_isThing_40 d q1.2 a1 a2
        else
          if (q1.2 fR_itKind 0 0) = (-1) then
            some ((-1), q1.2)
          else
            some ((-2), q1.2)
    else
      r_isThing_40 d σ a1 a2
  else
    some ((-1), σ) :=
  ga_blk_eq am_G (am_run d) mt_r_isThing 20 0 [(0, 7, 0), (1, 0, a1), (2, 0, a2)] [] σ
set_option maxRecDepth 100000 in
theorem e_r_isThing_40 (d : Nat) (σ : ga_S) (v1 v2 : Int) : r_isThing_40 d σ v1 v2 = (c_r_is d σ (w32 (v2 - 1)) 62).bind fun q2 =>
    if q2.1 = 0 then
      ga_ck v1 5002 (ga_nn (q2.2 fT_kinds 0 v1) ((c_k_isArticle d q2.2 (q2.2 fT_kinds 0 v1)).bind fun q3 =>
            if q3.1 = 0 then
              r_isThing_114 d q3.2 v2 0 v1
            else
              r_isThing_114 d q3.2 v2 1 v1))
    else
      if (q2.2 fR_nounKind 0 0) = (-1) then
        some ((-1), q2.2)
      else
        if (w32 (v2 - v1)) = 1 then
          r_isThing_86 d q2.2
        else
          if (w32 (v2 - v1)) = 2 then
            (c_r_is d q2.2 v1 11).bind fun q4 =>
              if q4.1 = 0 then
                some ((-1), q4.2)
              else
                r_isThing_86 d q4.2
          else
            some ((-1), q2.2) :=
  ga_blk_eq am_G (am_run d) mt_r_isThing 28 40 [(0, 7, 0), (1, 0, v1), (2, 0, v2)] [] σ
set_option maxRecDepth 100000 in
theorem e_r_isThing_114 (d : Nat) (σ : ga_S) (v2 s0 s1 : Int) : r_isThing_114 d σ v2 s0 s1 = r_isThing_119 d σ v2 (w32 (s1 + s0)) (w32 (s1 + s0)) :=
  ga_blk_eq am_G (am_run d) mt_r_isThing 4 114 [(0, 7, 0), (2, 0, v2)] [(0, s0), (0, s1)] σ
set_option maxRecDepth 100000 in
theorem e_r_isThing_86 (d : Nat) (σ : ga_S) : r_isThing_86 d σ = some ((-3), σ) :=
  ga_blk_eq am_G (am_run d) mt_r_isThing 3 86 [] [] σ
set_option maxRecDepth 100000 in
theorem e_r_isThing_119 (d : Nat) (σ : ga_S) (v2 v3 v4 : Int) : r_isThing_119 d σ v2 v3 v4 = if v4 < v2 then
    (c_r_isFree d σ v4).bind fun q6 =>
      if q6.1 = 0 then
        some ((-1), q6.2)
      else
        r_isThing_119 d q6.2 v2 v3 (w32 (v4 + 1))
  else
    if v3 < v2 then
      (c_r_mean d σ v3 v2 2).bind fun q5 =>
        some (q5.1, q5.2)
    else
      some ((-1), σ) :=
  ga_blk_eq am_G (am_run d) mt_r_isThing 13 119 [(0, 7, 0), (2, 0, v2), (3, 0, v3), (4, 0, v4)] [] σ
set_option maxRecDepth 100000 in
theorem e_r_saying (d : Nat) (σ : ga_S) (a1 a2 a3 : Int) : c_r_saying (d + 1) σ a1 a2 a3 = r_saying_8 d σ a1 a2 a3 0 (w32 (a2 + 1)) :=
  ga_blk_eq am_G (am_run d) mt_r_saying 6 0 [(0, 7, 0), (1, 10, a1), (2, 0, a2), (3, 0, a3)] [] σ
set_option maxRecDepth 100000 in
theorem e_r_saying_8 (d : Nat) (σ : ga_S) (v1 v2 v3 v4 v5 : Int) : r_saying_8 d σ v1 v2 v3 v4 v5 = if (w32 (v5 + 1)) < v3 then
    (c_r_isFree d σ v5).bind fun q1 =>
      if q1.1 = 0 then
        r_saying_41 d q1.2 v1 v2 v3 v4 v5 (-1)
      else
        (c_r_mean d q1.2 v5 (w32 (v5 + 1)) 12).bind fun q2 =>
          r_saying_41 d q2.2 v1 v2 v3 v4 v5 q2.1
  else
    if v4 = 1 then
      some (0, σ)
    else
      if v4 = 0 then
        r_saying_228 d σ v2 4
      else
        r_saying_228 d σ v2 7 :=
  ga_blk_eq am_G (am_run d) mt_r_saying 17 8 [(0, 7, 0), (1, 10, v1), (2, 0, v2), (3, 0, v3), (4, 0, v4), (5, 0, v5)] [] σ
set_option maxRecDepth 100000 in
theorem e_r_saying_228 (d : Nat) (σ : ga_S) (v2 s0 : Int) : r_saying_228 d σ v2 s0 = (c_r_note d σ s0 v2).bind fun q3 =>
    some (0, q3.2) :=
  ga_blk_eq am_G (am_run d) mt_r_saying 3 228 [(2, 0, v2)] [(0, s0), (7, 0)] σ
set_option maxRecDepth 100000 in
theorem e_r_saying_41 (d : Nat) (σ : ga_S) (v1 v2 v3 v4 v5 s0 : Int) : r_saying_41 d σ v1 v2 v3 v4 v5 s0 = if s0 = (-1) then
    r_saying_60 d σ v1 v2 v3 v4 v5 s0 (-1)
  else
    (c_r_isThing d σ v2 v5).bind fun q4 =>
      r_saying_60 d q4.2 v1 v2 v3 v4 v5 s0 q4.1 :=
  ga_blk_eq am_G (am_run d) mt_r_saying 8 41 [(0, 7, 0), (1, 10, v1), (2, 0, v2), (3, 0, v3), (4, 0, v4), (5, 0, v5)] [(0, s0)] σ
set_option maxRecDepth 100000 in
theorem e_r_saying_60 (d : Nat) (σ : ga_S) (v1 v2 v3 v4 v5 v6 s0 : Int) : r_saying_60 d σ v1 v2 v3 v4 v5 v6 s0 = if v6 = (-1) then
    r_saying_81 d σ v1 v2 v3 v4 v5 v6 s0 (-1)
  else
    (c_r_isThing d σ (w32 (v5 + 1)) v3).bind fun q5 =>
      r_saying_81 d q5.2 v1 v2 v3 v4 v5 v6 s0 q5.1 :=
  ga_blk_eq am_G (am_run d) mt_r_saying 10 60 [(0, 7, 0), (1, 10, v1), (2, 0, v2), (3, 0, v3), (4, 0, v4), (5, 0, v5), (6, 0, v6)] [(0, s0)] σ
set_option maxRecDepth 100000 in
theorem e_r_saying_81 (d : Nat) (σ : ga_S) (v1 v2 v3 v4 v5 v6 v7 s0 : Int) : r_saying_81 d σ v1 v2 v3 v4 v5 v6 v7 s0 = if v6 = (-1) then
    r_saying_204 d σ v1 v2 v3 v4 v5
  else
    if v7 = (-1) then
      r_saying_204 d σ v1 v2 v3 v4 v5
    else
      if s0 = (-1) then
        r_saying_204 d σ v1 v2 v3 v4 v5
      else
        (c_r_kindOf d σ v7).bind fun q6 =>
          ga_ck v6 8 (ga_ck (q6.2 fW_verbRelations 0 v6) 6 ((c_w_isBelow d q6.2 q6.1 (q6.2 fW_relationA 0 (q6.2 fW_verbRelations 0 v6))).bind fun q7 =>
                if q7.1 = 0 then
                  r_saying_204 d q7.2 v1 v2 v3 v4 v5
                else
                  (c_r_kindOf d q7.2 s0).bind fun q8 =>
                    ga_ck v6 8 (ga_ck (q8.2 fW_verbRelations 0 v6) 6 ((c_w_isBelow d q8.2 q8.1 (q8.2 fW_relationB 0 (q8.2 fW_verbRelations 0 v6))).bind fun q9 =>
                          if q9.1 = 0 then
                            r_saying_204 d q9.2 v1 v2 v3 v4 v5
                          else
                            ga_nn v1 (ga_nn v1 (ga_nn v1 (ga_ck v6 8 (ga_nn v1 (r_saying_204 d (ga_up (ga_up (ga_up (ga_up q9.2 fS_what v1 0 7) fS_thing v1 0 v7) fS_other v1 0 s0) fS_which v1 0 (q9.2 fW_verbRelations 0 v6)) v1 v2 v3 (w32 (v4 + 1)) v5))))))))) :=
  ga_blk_eq am_G (am_run d) mt_r_saying 59 81 [(0, 7, 0), (1, 10, v1), (2, 0, v2), (3, 0, v3), (4, 0, v4), (5, 0, v5), (6, 0, v6), (7, 0, v7)] [(0, s0)] σ
set_option maxRecDepth 100000 in
theorem e_r_saying_204 (d : Nat) (σ : ga_S) (v1 v2 v3 v4 v5 : Int) : r_saying_204 d σ v1 v2 v3 v4 v5 = r_saying_8 d σ v1 v2 v3 v4 (w32 (v5 + 1)) :=
  ga_blk_eq am_G (am_run d) mt_r_saying 2 204 [(0, 7, 0), (1, 10, v1), (2, 0, v2), (3, 0, v3), (4, 0, v4), (5, 0, v5)] [] σ
set_option maxRecDepth 100000 in
theorem e_r_property (d : Nat) (σ : ga_S) (a1 a2 a3 : Int) : c_r_property (d + 1) σ a1 a2 a3 = (c_r_mean d σ (σ fR_propertyFrom 0 0) (σ fR_propertyTo 0 0) 5).bind fun q1 =>
    if q1.1 = (-1) then
      r_property_64 d q1.2 a1 q1.1
    else
      if a2 = (-1) then
        r_property_43 d q1.2 a1 a3 q1.1
      else
        (c_r_kindOf d q1.2 a2).bind fun q2 =>
          (c_w_owns d q2.2 q2.1 q1.1).bind fun q3 =>
            if q3.1 = 0 then
              r_property_64 d q3.2 a1 q1.1
            else
              r_property_43 d q3.2 a1 a3 q1.1 :=
  ga_blk_eq am_G (am_run d) mt_r_property 22 0 [(0, 7, 0), (1, 10, a1), (2, 0, a2), (3, 0, a3)] [] σ
set_option maxRecDepth 100000 in
theorem e_r_property_64 (d : Nat) (σ : ga_S) (v1 v4 : Int) : r_property_64 d σ v1 v4 = r_property_65 d σ v1 v4 0 :=
  ga_blk_eq am_G (am_run d) mt_r_property 1 64 [(0, 7, 0), (1, 10, v1), (4, 0, v4)] [] σ
set_option maxRecDepth 100000 in
theorem e_r_property_43 (d : Nat) (σ : ga_S) (v1 v3 v4 : Int) : r_property_43 d σ v1 v3 v4 = if v3 = 0 then
    r_property_60 d σ v1 v4
  else
    ga_ck v4 12 (if (σ fW_propertyTypes 0 v4) = 0 then
        r_property_60 d σ v1 v4
      else
        r_property_64 d σ v1 v4) :=
  ga_blk_eq am_G (am_run d) mt_r_property 8 43 [(0, 7, 0), (1, 10, v1), (3, 0, v3), (4, 0, v4)] [] σ
set_option maxRecDepth 100000 in
theorem e_r_property_65 (d : Nat) (σ : ga_S) (v1 v4 s0 : Int) : r_property_65 d σ v1 v4 s0 = if s0 = 0 then
    (c_r_note d σ 4 (σ fR_propertyFrom 0 0)).bind fun q4 =>
      ga_nn v1 (some (0, (ga_up q4.2 fS_which v1 0 (-1))))
  else
    ga_nn v1 (some (0, (ga_up σ fS_which v1 0 v4))) :=
  ga_blk_eq am_G (am_run d) mt_r_property 13 65 [(0, 7, 0), (1, 10, v1), (4, 0, v4)] [(0, s0)] σ
set_option maxRecDepth 100000 in
theorem e_r_property_60 (d : Nat) (σ : ga_S) (v1 v4 : Int) : r_property_60 d σ v1 v4 = r_property_65 d σ v1 v4 1 :=
  ga_blk_eq am_G (am_run d) mt_r_property 2 60 [(0, 7, 0), (1, 10, v1), (4, 0, v4)] [] σ
set_option maxRecDepth 100000 in
theorem e_r_value (d : Nat) (σ : ga_S) (a1 a2 a3 a4 : Int) : c_r_value (d + 1) σ a1 a2 a3 a4 = (c_r_is d σ a3 1).bind fun q1 =>
    if q1.1 = 0 then
      (c_r_is d q1.2 a3 2).bind fun q2 =>
        if q2.1 = 0 then
          ga_nn a1 ((c_r_mean d (ga_up q2.2 fS_what a1 0 1) a3 a4 4).bind fun q3 =>
              ga_nn a1 (ga_nn a1 (if ((ga_up q3.2 fS_value a1 0 q3.1) fS_value a1 0) = (-1) then
                    some (0, (ga_up q3.2 fS_value a1 0 q3.1))
                  else
                    ga_nn a1 (ga_ck ((ga_up q3.2 fS_value a1 0 q3.1) fS_value a1 0) 64 (if (q3.2 fW_valueTypes 0 ((ga_up q3.2 fS_value a1 0 q3.1) fS_value a1 0)) = a2 then
                          some (1, (ga_up q3.2 fS_value a1 0 q3.1))
                        else
                          some (0, (ga_up q3.2 fS_value a1 0 q3.1)))))))
        else
          ga_nn a1 (ga_ck a3 5002 (ga_nn a1 (ga_ck a3 5002 (ga_nn a1 (if a2 = 1 then
                      some (1, (ga_up (ga_up (ga_up q2.2 fS_what a1 0 4) fS_value a1 0 (w32 ((q2.2 fT_places 0 a3) + 1))) fS_length a1 0 (w32 ((q2.2 fT_lengths 0 a3) - 2))))
                    else
                      some (0, (ga_up (ga_up (ga_up q2.2 fS_what a1 0 4) fS_value a1 0 (w32 ((q2.2 fT_places 0 a3) + 1))) fS_length a1 0 (w32 ((q2.2 fT_lengths 0 a3) - 2)))))))))
    else
      ga_nn a1 ((c_t_number d (ga_up q1.2 fS_what a1 0 3) 0 a3).bind fun q4 =>
          ga_nn a1 (if a2 = 0 then
              some (1, (ga_up q4.2 fS_value a1 0 q4.1))
            else
              some (0, (ga_up q4.2 fS_value a1 0 q4.1)))) :=
  ga_blk_eq am_G (am_run d) mt_r_value 37 0 [(0, 7, 0), (1, 10, a1), (2, 0, a2), (3, 0, a3), (4, 0, a4)] [] σ
set_option maxRecDepth 100000 in
theorem e_r_test (d : Nat) (σ : ga_S) (a1 a2 a3 a4 : Int) : c_r_test (d + 1) σ a1 a2 a3 a4 = (c_r_testShape d (ga_up σ fR_bad 0 0 (-1)) a2 a3 a4).bind fun q1 =>
    ga_nn a1 (ga_01 (q1.2 fR_isNot 0 0) (ga_nn a1 (if (q1.2 fR_form 0 0) = 4 then
            ga_nn a1 ((c_r_saying d (ga_up (ga_up (ga_up q1.2 fS_not a1 0 (q1.2 fR_isNot 0 0)) fS_length a1 0 0) fS_not a1 0 0) a1 a2 a3).bind fun q5 =>
                some (0, q5.2))
          else
            (c_r_thingOf d (ga_up (ga_up q1.2 fS_not a1 0 (q1.2 fR_isNot 0 0)) fS_length a1 0 0) (q1.2 fR_thingFrom 0 0) (q1.2 fR_thingTo 0 0)).bind fun q2 =>
              ga_nn a1 (if (q2.2 fR_form 0 0) = 1 then
                  ga_nn a1 (ga_nn a1 ((c_r_thingOf d (ga_up (ga_up (ga_up q2.2 fS_thing a1 0 q2.1) fS_what a1 0 2) fS_which a1 0 (q2.2 fR_placeSort 0 0)) (q2.2 fR_placeFrom 0 0) (q2.2 fR_placeTo 0 0)).bind fun q4 =>
                        ga_nn a1 (some (0, (ga_up q4.2 fS_other a1 0 q4.1)))))
                else
                  if (q2.2 fR_form 0 0) = 0 then
                    ga_nn a1 (if ((ga_up q2.2 fS_thing a1 0 q2.1) fS_thing a1 0) = (-1) then
                        some (0, (ga_up q2.2 fS_thing a1 0 q2.1))
                      else
                        ga_nn a1 ((c_r_kindOf d (ga_up q2.2 fS_thing a1 0 q2.1) ((ga_up q2.2 fS_thing a1 0 q2.1) fS_thing a1 0)).bind fun q3 =>
                            if a4 = 0 then
                              r_test_146 d q3.2 a1 1 (q3.2 fR_isNot 0 0) q3.1 a3 (q2.2 fR_behindFrom 0 0)
                            else
                              r_test_146 d q3.2 a1 0 (q3.2 fR_isNot 0 0) q3.1 a3 (q2.2 fR_behindFrom 0 0)))
                  else
                    ga_nn a1 (if (q2.2 fR_form 0 0) = 3 then
                        r_test_246 d (ga_up q2.2 fS_thing a1 0 q2.1) a1 a3 1 ((ga_up q2.2 fS_thing a1 0 q2.1) fS_thing a1 0) a1
                      else
                        r_test_246 d (ga_up q2.2 fS_thing a1 0 q2.1) a1 a3 0 ((ga_up q2.2 fS_thing a1 0 q2.1) fS_thing a1 0) a1))))) :=
  ga_blk_eq am_G (am_run d) mt_r_test 52 0 [(0, 7, 0), (1, 10, a1), (2, 0, a2), (3, 0, a3), (4, 0, a4)] [] σ
set_option maxRecDepth 100000 in
theorem e_r_test_246 (d : Nat) (σ : ga_S) (v1 v3 s0 s1 s2 : Int) : r_test_246 d σ v1 v3 s0 s1 s2 = (c_r_property d σ s2 s1 s0).bind fun q6 =>
    if (q6.2 fR_form 0 0) = 3 then
      (c_r_is d q6.2 (q6.2 fR_behindFrom 0 0) 60).bind fun q9 =>
        if q9.1 = 0 then
          r_test_278 d q9.2 v1 v3 6 v1
        else
          r_test_278 d q9.2 v1 v3 5 v1
    else
      ga_nn v1 (if (q6.2 fS_which v1 0) = (-1) then
          some (0, q6.2)
        else
          ga_nn v1 (ga_ck (q6.2 fS_which v1 0) 12 ((c_r_value d q6.2 v1 (q6.2 fW_propertyTypes 0 (q6.2 fS_which v1 0)) (q6.2 fR_behindFrom 0 0) v3).bind fun q7 =>
                if q7.1 = 0 then
                  (c_r_note d q7.2 4 (q7.2 fR_behindFrom 0 0)).bind fun q8 =>
                    some (0, q8.2)
                else
                  some (0, q7.2)))) :=
  ga_blk_eq am_G (am_run d) mt_r_test 28 246 [(0, 7, 0), (1, 10, v1), (3, 0, v3)] [(0, s0), (0, s1), (10, s2), (7, 0)] σ
set_option maxRecDepth 100000 in
theorem e_r_test_146 (d : Nat) (σ : ga_S) (v1 s0 s1 s2 s3 s4 : Int) : r_test_146 d σ v1 s0 s1 s2 s3 s4 = (c_r_adjective d σ s4 s3 s2 s1 s0).bind fun q10 =>
    if q10.1 = 1 then
      r_test_176 d q10.2 v1
    else
      if q10.1 = 0 then
        r_test_169 d q10.2 v1 4
      else
        r_test_169 d q10.2 v1 7 :=
  ga_blk_eq am_G (am_run d) mt_r_test 10 146 [(0, 7, 0), (1, 10, v1)] [(0, s0), (0, s1), (0, s2), (0, s3), (0, s4), (7, 0)] σ
set_option maxRecDepth 100000 in
theorem e_r_test_278 (d : Nat) (σ : ga_S) (v1 v3 s0 s1 : Int) : r_test_278 d σ v1 v3 s0 s1 = ga_nn s1 ((c_t_number d (ga_up σ fS_what s1 0 s0) 0 (w32 (v3 - 1))).bind fun q11 =>
      ga_nn v1 (some (0, (ga_up q11.2 fS_value v1 0 q11.1)))) :=
  ga_blk_eq am_G (am_run d) mt_r_test 11 278 [(0, 7, 0), (1, 10, v1), (3, 0, v3)] [(0, s0), (10, s1)] σ
set_option maxRecDepth 100000 in
theorem e_r_test_176 (d : Nat) (σ : ga_S) (v1 : Int) : r_test_176 d σ v1 = if (σ fR_foundAdjective 0 0) = (-1) then
    r_test_190 d σ v1 1 v1
  else
    r_test_190 d σ v1 0 v1 :=
  ga_blk_eq am_G (am_run d) mt_r_test 7 176 [(0, 7, 0), (1, 10, v1)] [] σ
set_option maxRecDepth 100000 in
theorem e_r_test_169 (d : Nat) (σ : ga_S) (v1 s0 : Int) : r_test_169 d σ v1 s0 = (c_r_note d σ s0 (σ fR_behindFrom 0 0)).bind fun q12 =>
    r_test_176 d q12.2 v1 :=
  ga_blk_eq am_G (am_run d) mt_r_test 3 169 [(0, 7, 0), (1, 10, v1)] [(0, s0), (7, 0)] σ
set_option maxRecDepth 100000 in
theorem e_r_test_190 (d : Nat) (σ : ga_S) (v1 s0 s1 : Int) : r_test_190 d σ v1 s0 s1 = ga_nn s1 (if (σ fR_foundAdjective 0 0) = (-1) then
      r_test_213 d (ga_up σ fS_what s1 0 s0) v1 (σ fR_foundProperty 0 0) v1
    else
      r_test_213 d (ga_up σ fS_what s1 0 s0) v1 (σ fR_foundAdjective 0 0) v1) :=
  ga_blk_eq am_G (am_run d) mt_r_test 9 190 [(0, 7, 0), (1, 10, v1)] [(0, s0), (10, s1)] σ
set_option maxRecDepth 100000 in
theorem e_r_test_213 (d : Nat) (σ : ga_S) (v1 s0 s1 : Int) : r_test_213 d σ v1 s0 s1 = ga_nn s1 (ga_nn v1 (some (0, (ga_up (ga_up σ fS_which s1 0 s0) fS_value v1 0 (σ fR_foundValue 0 0))))) :=
  ga_blk_eq am_G (am_run d) mt_r_test 7 213 [(0, 7, 0), (1, 10, v1)] [(0, s0), (10, s1)] σ
set_option maxRecDepth 100000 in
theorem e_r_phrase (d : Nat) (σ : ga_S) (a1 a2 a3 : Int) : c_r_phrase (d + 1) σ a1 a2 a3 = (c_r_phraseShape d (ga_up σ fR_bad 0 0 (-1)) a2 a3).bind fun q1 =>
    ga_nn a1 (ga_nn a1 (ga_nn a1 (ga_ck a2 5002 (ga_nn (q1.2 fT_kinds 0 a2) ((p_ord d (ga_up (ga_up (ga_up q1.2 fS_not a1 0 0) fS_thing a1 0 (-1)) fS_length a1 0 0) (q1.2 fT_kinds 0 a2)).bind fun q2 =>
                if q2.1 = 52 then
                  ga_nn a1 (ga_ck (w32 (a2 + 1)) 5002 (ga_nn a1 (ga_ck (w32 (a2 + 1)) 5002 (ga_nn a1 (ga_nn a1 (ga_nn a1 (ga_nn a1 ((c_r_isSaid d (ga_up (ga_up (ga_up q2.2 fS_what a1 0 8) fS_value a1 0 (w32 ((q2.2 fT_places 0 (w32 (a2 + 1))) + 1))) fS_length a1 0 (w32 ((q2.2 fT_lengths 0 (w32 (a2 + 1))) - 2))) ((ga_up (ga_up q2.2 fS_what a1 0 8) fS_value a1 0 (w32 ((q2.2 fT_places 0 (w32 (a2 + 1))) + 1))) fS_value a1 0) (w32 (((ga_up (ga_up q2.2 fS_what a1 0 8) fS_value a1 0 (w32 ((q2.2 fT_places 0 (w32 (a2 + 1))) + 1))) fS_value a1 0) + ((ga_up (ga_up (ga_up q2.2 fS_what a1 0 8) fS_value a1 0 (w32 ((q2.2 fT_places 0 (w32 (a2 + 1))) + 1))) fS_length a1 0 (w32 ((q2.2 fT_lengths 0 (w32 (a2 + 1))) - 2))) fS_length a1 0)))).bind fun q17 =>
                                    if q17.1 = 0 then
                                      (c_r_note d q17.2 8 (w32 (a2 + 1))).bind fun q18 =>
                                        some (0, q18.2)
                                    else
                                      some (0, q17.2)))))))))
                else
                  if q2.1 = 53 then
                    (c_r_test d q2.2 a1 (w32 (a2 + 1)) a3 1).bind fun q16 =>
                      some (0, q16.2)
                  else
                    if q2.1 = 54 then
                      ga_nn a1 ((c_r_thingOf d (ga_up q2.2 fS_what a1 0 9) (q2.2 fR_placeFrom 0 0) (q2.2 fR_placeTo 0 0)).bind fun q10 =>
                          (c_r_thingOf d q10.2 (q10.2 fR_thingFrom 0 0) (q10.2 fR_thingTo 0 0)).bind fun q11 =>
                            if q10.1 = (-1) then
                              r_phrase_268 d q11.2 a1 q10.1 q11.1
                            else
                              (c_r_kindOf d q11.2 q10.1).bind fun q12 =>
                                (c_w_isBelow d q12.2 q12.1 0).bind fun q13 =>
                                  if q13.1 = 0 then
                                    ga_ck (q13.2 fR_placeFrom 0 0) 5002 (ga_nn (q13.2 fT_kinds 0 (q13.2 fR_placeFrom 0 0)) ((c_k_isArticle d q13.2 (q13.2 fT_kinds 0 (q13.2 fR_placeFrom 0 0))).bind fun q14 =>
                                          if q14.1 = 0 then
                                            r_phrase_263 d q14.2 a1 q10.1 q11.1 (q13.2 fR_placeFrom 0 0) 4
                                          else
                                            (c_r_isFree d q14.2 (w32 ((q14.2 fR_placeFrom 0 0) + 1))).bind fun q15 =>
                                              if q15.1 = 0 then
                                                r_phrase_263 d q15.2 a1 q10.1 q11.1 (q13.2 fR_placeFrom 0 0) 4
                                              else
                                                r_phrase_264 d q15.2 a1 q10.1 q11.1 1 (q13.2 fR_placeFrom 0 0) 4))
                                  else
                                    r_phrase_268 d q13.2 a1 q10.1 q11.1)
                    else
                      if q2.1 = 55 then
                        (c_r_thingOf d q2.2 (q2.2 fR_thingFrom 0 0) (q2.2 fR_thingTo 0 0)).bind fun q7 =>
                          ga_nn a1 (ga_nn a1 ((c_r_property d (ga_up q7.2 fS_thing a1 0 q7.1) a1 ((ga_up q7.2 fS_thing a1 0 q7.1) fS_thing a1 0) 1).bind fun q8 =>
                                (c_r_is d q8.2 a2 55).bind fun q9 =>
                                  if q9.1 = 0 then
                                    r_phrase_328 d q9.2 a1 11 a1
                                  else
                                    r_phrase_328 d q9.2 a1 10 a1))
                      else
                        if q2.1 = 56 then
                          (c_r_thingOf d q2.2 (q2.2 fR_thingFrom 0 0) (q2.2 fR_thingTo 0 0)).bind fun q4 =>
                            ga_nn a1 (ga_nn a1 ((c_r_property d (ga_up q4.2 fS_thing a1 0 q4.1) a1 ((ga_up q4.2 fS_thing a1 0 q4.1) fS_thing a1 0) 1).bind fun q5 =>
                                  (c_r_is d q5.2 a2 55).bind fun q6 =>
                                    if q6.1 = 0 then
                                      r_phrase_328 d q6.2 a1 11 a1
                                    else
                                      r_phrase_328 d q6.2 a1 10 a1))
                        else
                          if q2.1 = 57 then
                            ga_nn a1 (some (0, (ga_up q2.2 fS_what a1 0 13)))
                          else
                            if q2.1 = 58 then
                              ga_nn a1 ((c_r_trying d (ga_up q2.2 fS_what a1 0 12) a1).bind fun q3 =>
                                  some (0, q3.2))
                            else
                              ga_nn a1 (some (0, (ga_up q2.2 fS_what a1 0 13)))))))) :=
  ga_blk_eq am_G (am_run d) mt_r_phrase 72 0 [(0, 7, 0), (1, 10, a1), (2, 0, a2), (3, 0, a3)] [] σ
set_option maxRecDepth 100000 in
theorem e_r_phrase_328 (d : Nat) (σ : ga_S) (v1 s0 s1 : Int) : r_phrase_328 d σ v1 s0 s1 = ga_nn s1 ((c_t_number d (ga_up σ fS_what s1 0 s0) 0 (σ fR_behindFrom 0 0)).bind fun q19 =>
      ga_nn v1 (some (0, (ga_up q19.2 fS_value v1 0 q19.1)))) :=
  ga_blk_eq am_G (am_run d) mt_r_phrase 10 328 [(0, 7, 0), (1, 10, v1)] [(0, s0), (10, s1)] σ
set_option maxRecDepth 100000 in
theorem e_r_phrase_268 (d : Nat) (σ : ga_S) (v1 v4 v5 : Int) : r_phrase_268 d σ v1 v4 v5 = ga_nn v1 (ga_nn v1 (some (0, (ga_up (ga_up σ fS_thing v1 0 v4) fS_other v1 0 v5)))) :=
  ga_blk_eq am_G (am_run d) mt_r_phrase 8 268 [(1, 10, v1), (4, 0, v4), (5, 0, v5)] [] σ
set_option maxRecDepth 100000 in
theorem e_r_phrase_263 (d : Nat) (σ : ga_S) (v1 v4 v5 s0 s1 : Int) : r_phrase_263 d σ v1 v4 v5 s0 s1 = r_phrase_264 d σ v1 v4 v5 0 s0 s1 :=
  ga_blk_eq am_G (am_run d) mt_r_phrase 1 263 [(1, 10, v1), (4, 0, v4), (5, 0, v5)] [(0, s0), (0, s1), (7, 0)] σ
set_option maxRecDepth 100000 in
theorem e_r_phrase_264 (d : Nat) (σ : ga_S) (v1 v4 v5 s0 s1 s2 : Int) : r_phrase_264 d σ v1 v4 v5 s0 s1 s2 = (c_r_note d σ s2 (w32 (s1 + s0))).bind fun q20 =>
    r_phrase_268 d q20.2 v1 v4 v5 :=
  ga_blk_eq am_G (am_run d) mt_r_phrase 2 264 [(1, 10, v1), (4, 0, v4), (5, 0, v5)] [(0, s0), (0, s1), (0, s2), (7, 0)] σ
set_option maxRecDepth 100000 in
theorem e_r_trying (d : Nat) (σ : ga_S) (a1 : Int) : c_r_trying (d + 1) σ a1 = if (σ fR_thingFrom 0 0) = (-1) then
    (c_r_acting d σ (σ fR_propertyFrom 0 0) (σ fR_propertyTo 0 0) 0).bind fun q1 =>
      ga_nn a1 (ga_nn a1 (if q1.1 = 1 then
            some (0, (ga_up (ga_up q1.2 fS_which a1 0 (q1.2 fR_actionFound 0 0)) fS_thing a1 0 (q1.2 fR_objectFound 0 0)))
          else
            if q1.1 = 0 then
              r_trying_117 d (ga_up (ga_up q1.2 fS_which a1 0 (q1.2 fR_actionFound 0 0)) fS_thing a1 0 (q1.2 fR_objectFound 0 0)) 4
            else
              r_trying_117 d (ga_up (ga_up q1.2 fS_which a1 0 (q1.2 fR_actionFound 0 0)) fS_thing a1 0 (q1.2 fR_objectFound 0 0)) 7))
  else
    (c_r_need d σ (σ fR_propertyFrom 0 0) (σ fR_propertyTo 0 0) 8).bind fun q2 =>
      if q2.1 = (-1) then
        r_trying_49 d q2.2 a1 q2.1
      else
        ga_ck q2.1 12 (if (q2.2 fW_actionKinds 0 q2.1) < 0 then
            (c_r_note d q2.2 4 (q2.2 fR_propertyFrom 0 0)).bind fun q3 =>
              r_trying_49 d q3.2 a1 q2.1
          else
            r_trying_49 d q2.2 a1 q2.1) :=
  ga_blk_eq am_G (am_run d) mt_r_trying 28 0 [(0, 7, 0), (1, 10, a1)] [] σ
set_option maxRecDepth 100000 in
theorem e_r_trying_117 (d : Nat) (σ : ga_S) (s0 : Int) : r_trying_117 d σ s0 = (c_r_note d σ s0 (σ fR_propertyFrom 0 0)).bind fun q4 =>
    some (0, q4.2) :=
  ga_blk_eq am_G (am_run d) mt_r_trying 4 117 [(0, 7, 0)] [(0, s0), (7, 0)] σ
set_option maxRecDepth 100000 in
theorem e_r_trying_49 (d : Nat) (σ : ga_S) (v1 v2 : Int) : r_trying_49 d σ v1 v2 = ga_nn v1 ((c_r_thingOf d (ga_up σ fS_which v1 0 v2) (σ fR_thingFrom 0 0) (σ fR_thingTo 0 0)).bind fun q5 =>
      ga_nn v1 (some (0, (ga_up q5.2 fS_thing v1 0 q5.1)))) :=
  ga_blk_eq am_G (am_run d) mt_r_trying 12 49 [(0, 7, 0), (1, 10, v1), (2, 0, v2)] [] σ
set_option maxRecDepth 100000 in
theorem e_r_acting (d : Nat) (σ : ga_S) (a1 a2 a3 : Int) : c_r_acting (d + 1) σ a1 a2 a3 = r_acting_18 d (ga_up (ga_up σ fR_objectFound 0 0 (-1)) fR_actionFound 0 0 (-1)) a1 a2 a3 0 (w32 (a1 + 1)) :=
  ga_blk_eq am_G (am_run d) mt_r_acting 12 0 [(0, 7, 0), (1, 0, a1), (2, 0, a2), (3, 0, a3)] [] σ
set_option maxRecDepth 100000 in
theorem e_r_acting_18 (d : Nat) (σ : ga_S) (v1 v2 v3 v4 v5 : Int) : r_acting_18 d σ v1 v2 v3 v4 v5 = if v2 < v5 then
    some (v4, σ)
  else
    (c_r_mean d σ v1 v5 8).bind fun q1 =>
      if v5 = v2 then
        if q1.1 = (-1) then
          r_acting_158 d q1.2 v1 v2 v3 v4 v5
        else
          if v3 = 0 then
            ga_ck q1.1 12 (if (q1.2 fW_actionKinds 0 q1.1) = (-1) then
                r_acting_65 d q1.2 v1 v2 v3 v4 v5 q1.1
              else
                r_acting_158 d q1.2 v1 v2 v3 v4 v5)
          else
            r_acting_65 d q1.2 v1 v2 v3 v4 v5 q1.1
      else
        if q1.1 = (-1) then
          r_acting_158 d q1.2 v1 v2 v3 v4 v5
        else
          ga_ck q1.1 12 (if (q1.2 fW_actionKinds 0 q1.1) < 0 then
              r_acting_158 d q1.2 v1 v2 v3 v4 v5
            else
              (c_r_mean d q1.2 v5 v2 2).bind fun q2 =>
                if q2.1 = (-1) then
                  r_acting_158 d q2.2 v1 v2 v3 v4 v5
                else
                  if v3 = 0 then
                    r_acting_143 d q2.2 v1 v2 v3 v4 v5 q1.1 q2.1
                  else
                    ga_ck q1.1 12 ((c_w_isKind d q2.2 q2.1 (q2.2 fW_actionKinds 0 q1.1)).bind fun q3 =>
                        if q3.1 = 0 then
                          r_acting_158 d q3.2 v1 v2 v3 v4 v5
                        else
                          r_acting_143 d q3.2 v1 v2 v3 v4 v5 q1.1 q2.1)) :=
  ga_blk_eq am_G (am_run d) mt_r_acting 42 18 [(0, 7, 0), (1, 0, v1), (2, 0, v2), (3, 0, v3), (4, 0, v4), (5, 0, v5)] [] σ
set_option maxRecDepth 100000 in
theorem e_r_acting_158 (d : Nat) (σ : ga_S) (v1 v2 v3 v4 v5 : Int) : r_acting_158 d σ v1 v2 v3 v4 v5 = r_acting_18 d σ v1 v2 v3 v4 (w32 (v5 + 1)) :=
  ga_blk_eq am_G (am_run d) mt_r_acting 2 158 [(0, 7, 0), (1, 0, v1), (2, 0, v2), (3, 0, v3), (4, 0, v4), (5, 0, v5)] [] σ
set_option maxRecDepth 100000 in
theorem e_r_acting_143 (d : Nat) (σ : ga_S) (v1 v2 v3 v4 v5 v6 v7 : Int) : r_acting_143 d σ v1 v2 v3 v4 v5 v6 v7 = r_acting_158 d (ga_up (ga_up σ fR_actionFound 0 0 v6) fR_objectFound 0 0 v7) v1 v2 v3 (w32 (v4 + 1)) v5 :=
  ga_blk_eq am_G (am_run d) mt_r_acting 7 143 [(0, 7, 0), (1, 0, v1), (2, 0, v2), (3, 0, v3), (4, 0, v4), (5, 0, v5), (6, 0, v6), (7, 0, v7)] [] σ
set_option maxRecDepth 100000 in
theorem e_r_acting_65 (d : Nat) (σ : ga_S) (v1 v2 v3 v4 v5 v6 : Int) : r_acting_65 d σ v1 v2 v3 v4 v5 v6 = r_acting_158 d (ga_up (ga_up σ fR_actionFound 0 0 v6) fR_objectFound 0 0 (-1)) v1 v2 v3 (w32 (v4 + 1)) v5 :=
  ga_blk_eq am_G (am_run d) mt_r_acting 8 65 [(0, 7, 0), (1, 0, v1), (2, 0, v2), (3, 0, v3), (4, 0, v4), (5, 0, v5), (6, 0, v6)] [] σ

set_option maxRecDepth 100000 in
theorem e_m_read (d : Nat) (σ : ga_S) : c_m_read (d + 1) σ = (p_cpy_88_89 d (ga_up σ fM_storySize 0 0 (σ fM_size 0 0)) 0 0 (σ fM_size 0 0)).bind fun q1 =>
    (c_m_cut d (ga_up q1.2 fM_size 0 0 0)).bind fun q2 =>
      (c_m_begin d q2.2).bind fun q3 =>
        (c_m_readStory d q3.2).bind fun q4 =>
          if (q4.2 fM_fault 0 0) = 0 then
            m_read_63 d q4.2 0
          else
            (c_m_begin d q4.2).bind fun q5 =>
              some ((w32 ((-10) - (q5.2 fM_faultPlace 0 0))), q5.2) :=
  ga_blk_eq am_G (am_run d) mt_m_read 32 0 [(0, 12, 0)] [] σ
set_option maxRecDepth 100000 in
theorem e_m_read_63 (d : Nat) (σ : ga_S) (v1 : Int) : m_read_63 d σ v1 = if v1 < (σ fM_objects 0 0) then
    if (σ fM_way 0 0) = 0 then
      ga_ck v1 24 ((c_m_isBelow d σ (σ fM_kindOf 0 v1) 1).bind fun q6 =>
          if q6.1 = 0 then
            m_read_108 d q6.2 v1
          else
            m_read_108 d (ga_up (ga_up q6.2 fM_way 0 0 1) fM_there 0 0 v1) v1)
    else
      some ((σ fM_sentences 0 0), σ)
  else
    some ((σ fM_sentences 0 0), σ) :=
  ga_blk_eq am_G (am_run d) mt_m_read 27 63 [(0, 12, 0), (1, 0, v1)] [] σ
set_option maxRecDepth 100000 in
theorem e_m_read_108 (d : Nat) (σ : ga_S) (v1 : Int) : m_read_108 d σ v1 = m_read_63 d σ (w32 (v1 + 1)) :=
  ga_blk_eq am_G (am_run d) mt_m_read 2 108 [(0, 12, 0), (1, 0, v1)] [] σ
set_option maxRecDepth 100000 in
theorem e_m_fault (d : Nat) (σ : ga_S) : c_m_fault (d + 1) σ = some ((σ fM_fault 0 0), σ) :=
  ga_blk_eq am_G (am_run d) mt_m_fault 3 0 [(0, 12, 0)] [] σ
set_option maxRecDepth 100000 in
theorem e_m_holds (d : Nat) (σ : ga_S) (a1 a2 a3 : Int) : c_m_holds (d + 1) σ a1 a2 a3 = if a2 < 100 then
    ga_ck a2 24 (if 0 < (σ fM_definedTests 0 a2) then
        if a3 < 8 then
          ga_ck a1 24 (ga_ck a2 24 ((c_m_isBelow d σ (σ fM_kindOf 0 a1) (σ fM_adjectiveKind 0 a2)).bind fun q1 =>
                if q1.1 = 0 then
                  m_holds_68 d q1.2 a1 a2 a3
                else
                  m_holds_69 d q1.2 a1 a2 a3 1))
        else
          m_holds_68 d σ a1 a2 a3
      else
        ga_ck (w32 ((w32 (24 * a1)) + a2)) 576 (if (σ fM_objectIs 0 (w32 ((w32 (24 * a1)) + a2))) = 0 then
            ga_ck a1 24 (m_holds_162 d σ a2 (σ fM_kindOf 0 a1))
          else
            ga_ck (w32 ((w32 (24 * a1)) + a2)) 576 (if (σ fM_objectIs 0 (w32 ((w32 (24 * a1)) + a2))) = 1 then
                some (1, σ)
              else
                some (0, σ))))
  else
    (c_m_numberOf d σ a1 (w32 (Int.tmod a2 100))).bind fun q2 =>
      if q2.1 = (w32 ((w32 (Int.tdiv a2 100)) - 1)) then
        some (1, q2.2)
      else
        some (0, q2.2) :=
  ga_blk_eq am_G (am_run d) mt_m_holds 30 0 [(0, 12, 0), (1, 0, a1), (2, 0, a2), (3, 0, a3)] [] σ
set_option maxRecDepth 100000 in
theorem e_m_holds_162 (d : Nat) (σ : ga_S) (v2 v4 : Int) : m_holds_162 d σ v2 v4 = if v4 < 0 then
    ga_ck v2 24 (if (σ fM_contrary 0 v2) = (-1) then
        some (0, σ)
      else
        ga_ck v2 24 (if (σ fM_contrary 0 v2) < v2 then
            some (1, σ)
          else
            some (0, σ)))
  else
    ga_ck (w32 ((w32 (24 * v4)) + v2)) 384 (if (σ fM_kindIs 0 (w32 ((w32 (24 * v4)) + v2))) = 0 then
        ga_ck v4 16 (m_holds_162 d σ v2 (σ fM_above 0 v4))
      else
        ga_ck (w32 ((w32 (24 * v4)) + v2)) 384 (if (σ fM_kindIs 0 (w32 ((w32 (24 * v4)) + v2))) = 1 then
            some (1, σ)
          else
            some (0, σ))) :=
  ga_blk_eq am_G (am_run d) mt_m_holds 24 162 [(0, 12, 0), (2, 0, v2), (4, 0, v4)] [] σ
set_option maxRecDepth 100000 in
theorem e_m_holds_68 (d : Nat) (σ : ga_S) (v1 v2 v3 : Int) : m_holds_68 d σ v1 v2 v3 = m_holds_69 d σ v1 v2 v3 0 :=
  ga_blk_eq am_G (am_run d) mt_m_holds 1 68 [(0, 12, 0), (1, 0, v1), (2, 0, v2), (3, 0, v3)] [] σ
set_option maxRecDepth 100000 in
theorem e_m_holds_69 (d : Nat) (σ : ga_S) (v1 v2 v3 s0 : Int) : m_holds_69 d σ v1 v2 v3 s0 = m_holds_74 d σ v1 v2 v3 s0 0 :=
  ga_blk_eq am_G (am_run d) mt_m_holds 3 69 [(0, 12, 0), (1, 0, v1), (2, 0, v2), (3, 0, v3)] [(0, s0)] σ
set_option maxRecDepth 100000 in
theorem e_m_holds_74 (d : Nat) (σ : ga_S) (v1 v2 v3 v4 v5 : Int) : m_holds_74 d σ v1 v2 v3 v4 v5 = ga_ck v2 24 (if v5 < (σ fM_definedTests 0 v2) then
      if v4 = 0 then
        ga_01 v4 (some (v4, σ))
      else
        ga_ck v2 24 ((c_m_tested d σ (w32 ((σ fM_definedFrom 0 v2) + v5)) v1 (-1) (w32 (v3 + 1))).bind fun q3 =>
            m_holds_74 d q3.2 v1 v2 v3 q3.1 (w32 (v5 + 1)))
    else
      ga_01 v4 (some (v4, σ))) :=
  ga_blk_eq am_G (am_run d) mt_m_holds 24 74 [(0, 12, 0), (1, 0, v1), (2, 0, v2), (3, 0, v3), (4, 0, v4), (5, 0, v5)] [] σ
set_option maxRecDepth 100000 in
theorem e_m_numberOf (d : Nat) (σ : ga_S) (a1 a2 : Int) : c_m_numberOf (d + 1) σ a1 a2 = ga_ck (w32 ((w32 (12 * a1)) + a2)) 288 (if (σ fM_objectTold 0 (w32 ((w32 (12 * a1)) + a2))) = 0 then
      ga_ck a1 24 (m_numberOf_53 d (ga_up σ fM_numberLong 0 0 0) a2 (σ fM_kindOf 0 a1))
    else
      ga_ck (w32 ((w32 (12 * a1)) + a2)) 288 (ga_ck (w32 ((w32 (12 * a1)) + a2)) 288 (some ((σ fM_objectSays 0 (w32 ((w32 (12 * a1)) + a2))), (ga_up (ga_up σ fM_numberLong 0 0 0) fM_numberLong 0 0 (σ fM_objectLong 0 (w32 ((w32 (12 * a1)) + a2)))))))) :=
  ga_blk_eq am_G (am_run d) mt_m_numberOf 31 0 [(0, 12, 0), (1, 0, a1), (2, 0, a2)] [] σ
set_option maxRecDepth 100000 in
theorem e_m_numberOf_53 (d : Nat) (σ : ga_S) (v2 v3 : Int) : m_numberOf_53 d σ v2 v3 = if v3 < 0 then
    m_numberOf_110 d σ v2 0
  else
    ga_ck (w32 ((w32 (12 * v3)) + v2)) 192 (if (σ fM_kindTold 0 (w32 ((w32 (12 * v3)) + v2))) = 0 then
        ga_ck v3 16 (m_numberOf_53 d σ v2 (σ fM_above 0 v3))
      else
        ga_ck (w32 ((w32 (12 * v3)) + v2)) 192 (ga_ck (w32 ((w32 (12 * v3)) + v2)) 192 (some ((σ fM_kindSays 0 (w32 ((w32 (12 * v3)) + v2))), (ga_up σ fM_numberLong 0 0 (σ fM_kindLong 0 (w32 ((w32 (12 * v3)) + v2)))))))) :=
  ga_blk_eq am_G (am_run d) mt_m_numberOf 30 53 [(0, 12, 0), (2, 0, v2), (3, 0, v3)] [] σ
set_option maxRecDepth 100000 in
theorem e_m_numberOf_110 (d : Nat) (σ : ga_S) (v2 v3 : Int) : m_numberOf_110 d σ v2 v3 = if v3 < (σ fM_values 0 0) then
    ga_ck v2 12 (if 1 < (σ fM_propertyType 0 v2) then
        ga_ck v3 64 (ga_ck v2 12 (if (σ fM_valueType 0 v3) = (σ fM_propertyType 0 v2) then
              some (v3, σ)
            else
              m_numberOf_110 d σ v2 (w32 (v3 + 1))))
      else
        m_numberOf_151 d σ v2)
  else
    m_numberOf_151 d σ v2 :=
  ga_blk_eq am_G (am_run d) mt_m_numberOf 21 110 [(0, 12, 0), (2, 0, v2), (3, 0, v3)] [] σ
set_option maxRecDepth 100000 in
theorem e_m_numberOf_151 (d : Nat) (σ : ga_S) (v2 : Int) : m_numberOf_151 d σ v2 = ga_ck v2 12 (if 1 < (σ fM_propertyType 0 v2) then
      some ((-1), σ)
    else
      some (0, σ)) :=
  ga_blk_eq am_G (am_run d) mt_m_numberOf 9 151 [(0, 12, 0), (2, 0, v2)] [] σ
set_option maxRecDepth 100000 in
theorem e_m_thingIs (d : Nat) (σ : ga_S) (a0 a1 a2 : Int) : c_m_thingIs (d + 1) σ a0 a1 a2 = if a0 = (-1) then
    some (a1, σ)
  else
    if a0 = (-2) then
      some (a2, σ)
    else
      some (a0, σ) :=
  ga_blk_eq am_G (am_run d) mt_m_thingIs 9 0 [(0, 0, a0), (1, 0, a1), (2, 0, a2)] [] σ
set_option maxRecDepth 100000 in
theorem e_m_tested (d : Nat) (σ : ga_S) (a1 a2 a3 a4 : Int) : c_m_tested (d + 1) σ a1 a2 a3 a4 = ga_ck a1 2400 ((c_m_thingIs d σ (σ fM_qThing 0 a1) a2 a3).bind fun q1 =>
      ga_ck a1 2400 (if (q1.2 fM_qForm 0 a1) = 5 then
          ga_ck a1 2400 (ga_ck a1 2400 ((c_m_thingIs d q1.2 (q1.2 fM_qOther 0 a1) a2 a3).bind fun q5 =>
                ga_ck (w32 ((w32 ((w32 (576 * (q1.2 fM_qProperty 0 a1))) + (w32 (24 * q1.1)))) + q5.1)) 3456 (ga_01 (q5.2 fM_related 0 (w32 ((w32 ((w32 (576 * (q1.2 fM_qProperty 0 a1))) + (w32 (24 * q1.1)))) + q5.1))) (some ((q5.2 fM_related 0 (w32 ((w32 ((w32 (576 * (q1.2 fM_qProperty 0 a1))) + (w32 (24 * q1.1)))) + q5.1))), q5.2)))))
        else
          ga_ck a1 2400 (if (q1.2 fM_qForm 0 a1) = 3 then
              ga_ck a1 2400 ((c_m_holds d q1.2 q1.1 (q1.2 fM_qWhat 0 a1) a4).bind fun q4 =>
                  m_tested_288 d q4.2 a1 q4.1)
            else
              ga_ck a1 2400 (if (q1.2 fM_qForm 0 a1) = 4 then
                  ga_ck q1.1 24 (ga_ck a1 2400 (if (q1.2 fM_way 0 q1.1) = (q1.2 fM_qWhat 0 a1) then
                        ga_ck q1.1 24 (ga_ck a1 2400 ((c_m_thingIs d q1.2 (q1.2 fM_qOther 0 a1) a2 a3).bind fun q3 =>
                              if (q1.2 fM_there 0 q1.1) = q3.1 then
                                m_tested_141 d q3.2 a1 1
                              else
                                m_tested_140 d q3.2 a1))
                      else
                        m_tested_140 d q1.2 a1))
                else
                  ga_ck a1 2400 ((c_m_numberOf d q1.2 q1.1 (q1.2 fM_qProperty 0 a1)).bind fun q2 =>
                      ga_ck a1 2400 (ga_ck (q2.2 fM_qProperty 0 a1) 12 (if (q2.2 fM_propertyType 0 (q2.2 fM_qProperty 0 a1)) = 1 then
                            m_tested_180 d q2.2 a1 q2.1 1
                          else
                            m_tested_180 d q2.2 a1 q2.1 0))))))) :=
  ga_blk_eq am_G (am_run d) mt_m_tested 51 0 [(0, 12, 0), (1, 0, a1), (2, 0, a2), (3, 0, a3), (4, 0, a4)] [] σ
set_option maxRecDepth 100000 in
theorem e_m_tested_180 (d : Nat) (σ : ga_S) (v1 v7 s0 : Int) : m_tested_180 d σ v1 v7 s0 = ga_ck v1 2400 (if (σ fM_qForm 0 v1) = 1 then
      ga_ck v1 2400 (if v7 < (σ fM_qWhat 0 v1) then
          m_tested_286 d σ v1 1
        else
          m_tested_286 d σ v1 0)
    else
      ga_ck v1 2400 (if (σ fM_qForm 0 v1) = 2 then
          ga_ck v1 2400 (if (σ fM_qWhat 0 v1) < v7 then
              m_tested_286 d σ v1 1
            else
              m_tested_286 d σ v1 0)
        else
          if s0 = 0 then
            ga_ck v1 2400 (if v7 = (σ fM_qWhat 0 v1) then
                m_tested_286 d σ v1 1
              else
                m_tested_286 d σ v1 0)
          else
            ga_ck v1 2400 (ga_ck v1 2400 ((c_m_isSameText d σ v7 (σ fM_numberLong 0 0) (σ fM_qWhat 0 v1) (σ fM_qLong 0 v1)).bind fun q6 =>
                  m_tested_286 d q6.2 v1 q6.1)))) :=
  ga_blk_eq am_G (am_run d) mt_m_tested 29 180 [(0, 12, 0), (1, 0, v1), (7, 0, v7)] [(0, s0)] σ
set_option maxRecDepth 100000 in
theorem e_m_tested_140 (d : Nat) (σ : ga_S) (v1 : Int) : m_tested_140 d σ v1 = m_tested_141 d σ v1 0 :=
  ga_blk_eq am_G (am_run d) mt_m_tested 1 140 [(0, 12, 0), (1, 0, v1)] [] σ
set_option maxRecDepth 100000 in
theorem e_m_tested_141 (d : Nat) (σ : ga_S) (v1 s0 : Int) : m_tested_141 d σ v1 s0 = m_tested_288 d σ v1 s0 :=
  ga_blk_eq am_G (am_run d) mt_m_tested 2 141 [(0, 12, 0), (1, 0, v1)] [(0, s0)] σ
set_option maxRecDepth 100000 in
theorem e_m_tested_288 (d : Nat) (σ : ga_S) (v1 v6 : Int) : m_tested_288 d σ v1 v6 = ga_ck v1 2400 (if v6 = (σ fM_qNot 0 v1) then
      some (0, σ)
    else
      some (1, σ)) :=
  ga_blk_eq am_G (am_run d) mt_m_tested 9 288 [(0, 12, 0), (1, 0, v1), (6, 0, v6)] [] σ
set_option maxRecDepth 100000 in
theorem e_m_tested_286 (d : Nat) (σ : ga_S) (v1 s0 : Int) : m_tested_286 d σ v1 s0 = m_tested_288 d σ v1 s0 :=
  ga_blk_eq am_G (am_run d) mt_m_tested 1 286 [(0, 12, 0), (1, 0, v1)] [(0, s0)] σ
set_option maxRecDepth 100000 in
theorem e_m_put (d : Nat) (σ : ga_S) (a1 : Int) : c_m_put (d + 1) σ a1 = if (σ fM_outSize 0 0) < 2000 then
    if (σ fM_isDry 0 0) = 0 then
      ga_ck (σ fM_outSize 0 0) 2000 (some (0, (ga_up (ga_up σ fM_out 0 (σ fM_outSize 0 0) (w8 (w8 a1))) fM_outSize 0 0 (w32 ((σ fM_outSize 0 0) + 1)))))
    else
      some (0, σ)
  else
    some (0, σ) :=
  ga_blk_eq am_G (am_run d) mt_m_put 21 0 [(0, 12, 0), (1, 0, a1)] [] σ
set_option maxRecDepth 100000 in
theorem e_m_letterOf (d : Nat) (σ : ga_S) (a0 a2 : Int) : c_m_letterOf (d + 1) σ a0 a2 = m_letterOf_2 d σ a0 a2 0 :=
  ga_blk_eq am_G (am_run d) mt_m_letterOf 2 0 [(0, 1, a0), (2, 0, a2)] [] σ
set_option maxRecDepth 100000 in
theorem e_m_letterOf_2 (d : Nat) (σ : ga_S) (v0 v2 v3 : Int) : m_letterOf_2 d σ v0 v2 v3 = if v3 < 12 then
    if (ga_lcmp (ga_lshr v0 (w32 (5 * v3))) 0) = 0 then
      m_letterOf_24 d σ v0 v2 v3
    else
      m_letterOf_2 d σ v0 v2 (w32 (v3 + 1))
  else
    m_letterOf_24 d σ v0 v2 v3 :=
  ga_blk_eq am_G (am_run d) mt_m_letterOf 13 2 [(0, 1, v0), (2, 0, v2), (3, 0, v3)] [] σ
set_option maxRecDepth 100000 in
theorem e_m_letterOf_24 (d : Nat) (σ : ga_S) (v0 v2 v3 : Int) : m_letterOf_24 d σ v0 v2 v3 = if v2 < v3 then
    some ((w32 ((w32 (ga_land (ga_lshr v0 (w32 (5 * (w32 ((w32 (v3 - 1)) - v2))))) 31)) + 96)), σ)
  else
    some ((-1), σ) :=
  ga_blk_eq am_G (am_run d) mt_m_letterOf 19 24 [(0, 1, v0), (2, 0, v2), (3, 0, v3)] [] σ
set_option maxRecDepth 100000 in
theorem e_m_byteOf (d : Nat) (σ : ga_S) (a1 a2 : Int) : c_m_byteOf (d + 1) σ a1 a2 = m_byteOf_5 d σ a1 a2 0 :=
  ga_blk_eq am_G (am_run d) mt_m_byteOf 4 0 [(0, 12, 0), (1, 0, a1), (2, 0, a2)] [] σ
set_option maxRecDepth 100000 in
theorem e_m_byteOf_5 (d : Nat) (σ : ga_S) (v1 v3 v4 : Int) : m_byteOf_5 d σ v1 v3 v4 = ga_ck v1 300 (if v4 < (σ fM_lexSize 0 v1) then
      m_byteOf_19 d σ v1 v3 v4 0
    else
      some ((-1), σ)) :=
  ga_blk_eq am_G (am_run d) mt_m_byteOf 8 5 [(0, 12, 0), (1, 0, v1), (3, 0, v3), (4, 0, v4)] [] σ
set_option maxRecDepth 100000 in
theorem e_m_byteOf_19 (d : Nat) (σ : ga_S) (v1 v3 v4 v5 : Int) : m_byteOf_19 d σ v1 v3 v4 v5 = ga_ck (w32 ((w32 (3 * v1)) + v4)) 900 ((c_m_letterOf d σ (σ fM_lexWord 0 (w32 ((w32 (3 * v1)) + v4))) v5).bind fun q1 =>
      if q1.1 = (-1) then
        if v3 < v5 then
          ga_ck (w32 ((w32 (3 * v1)) + v4)) 900 ((c_m_letterOf d q1.2 (q1.2 fM_lexWord 0 (w32 ((w32 (3 * v1)) + v4))) v3).bind fun q2 =>
              some (q2.1, q2.2))
        else
          ga_ck v1 300 (if (w32 (v4 + 1)) = (q1.2 fM_lexSize 0 v1) then
              m_byteOf_90 d q1.2 v1 (w32 (v3 - v5)) v4 1
            else
              m_byteOf_90 d q1.2 v1 (w32 (v3 - v5)) v4 0)
      else
        m_byteOf_19 d q1.2 v1 v3 v4 (w32 (v5 + 1))) :=
  ga_blk_eq am_G (am_run d) mt_m_byteOf 29 19 [(0, 12, 0), (1, 0, v1), (3, 0, v3), (4, 0, v4), (5, 0, v5)] [] σ
set_option maxRecDepth 100000 in
theorem e_m_byteOf_90 (d : Nat) (σ : ga_S) (v1 v3 v4 s0 : Int) : m_byteOf_90 d σ v1 v3 v4 s0 = if v3 = 0 then
    if s0 = 0 then
      some (32, σ)
    else
      ga_ck v1 300 (if (σ fM_lexLong 0 v1) = 0 then
          some ((-1), σ)
        else
          some (115, σ))
  else
    m_byteOf_5 d σ v1 (w32 (v3 + (-1))) (w32 (v4 + 1)) :=
  ga_blk_eq am_G (am_run d) mt_m_byteOf 13 90 [(0, 12, 0), (1, 0, v1), (3, 0, v3), (4, 0, v4)] [(0, s0)] σ
set_option maxRecDepth 100000 in
theorem e_m_putLex (d : Nat) (σ : ga_S) (a1 : Int) : c_m_putLex (d + 1) σ a1 = m_putLex_2 d σ a1 0 :=
  ga_blk_eq am_G (am_run d) mt_m_putLex 2 0 [(0, 12, 0), (1, 0, a1)] [] σ
set_option maxRecDepth 100000 in
theorem e_m_putLex_2 (d : Nat) (σ : ga_S) (v1 v2 : Int) : m_putLex_2 d σ v1 v2 = if v1 = (-1) then
    some (0, σ)
  else
    (c_m_byteOf d σ v1 v2).bind fun q1 =>
      if q1.1 = (-1) then
        some (0, q1.2)
      else
        (c_m_byteOf d q1.2 v1 v2).bind fun q2 =>
          (c_m_put d q2.2 q2.1).bind fun q3 =>
            m_putLex_2 d q3.2 v1 (w32 (v2 + 1)) :=
  ga_blk_eq am_G (am_run d) mt_m_putLex 17 2 [(0, 12, 0), (1, 0, v1), (2, 0, v2)] [] σ
set_option maxRecDepth 100000 in
theorem e_m_putNumber (d : Nat) (σ : ga_S) (a1 : Int) : c_m_putNumber (d + 1) σ a1 = if a1 < 0 then
    (c_m_put d σ 45).bind fun q1 =>
      m_putNumber_10 d q1.2 a1
  else
    m_putNumber_10 d σ a1 :=
  ga_blk_eq am_G (am_run d) mt_m_putNumber 5 0 [(0, 12, 0), (1, 0, a1)] [] σ
set_option maxRecDepth 100000 in
theorem e_m_putNumber_10 (d : Nat) (σ : ga_S) (v1 : Int) : m_putNumber_10 d σ v1 = (p_abs d σ v1).bind fun q2 =>
    m_putNumber_17 d q2.2 q2.1 1 :=
  ga_blk_eq am_G (am_run d) mt_m_putNumber 5 10 [(0, 12, 0), (1, 0, v1)] [] σ
set_option maxRecDepth 100000 in
theorem e_m_putNumber_17 (d : Nat) (σ : ga_S) (v2 v3 : Int) : m_putNumber_17 d σ v2 v3 = ga_nz v3 (if 9 < (w32 (Int.tdiv v2 v3)) then
      m_putNumber_17 d σ v2 (w32 (v3 * 10))
    else
      m_putNumber_33 d σ v2 v3) :=
  ga_blk_eq am_G (am_run d) mt_m_putNumber 10 17 [(0, 12, 0), (2, 0, v2), (3, 0, v3)] [] σ
set_option maxRecDepth 100000 in
theorem e_m_putNumber_33 (d : Nat) (σ : ga_S) (v2 v3 : Int) : m_putNumber_33 d σ v2 v3 = if 0 < v3 then
    ga_nz v3 ((c_m_put d σ (w32 (48 + (w32 (Int.tmod (w32 (Int.tdiv v2 v3)) 10))))).bind fun q3 =>
        m_putNumber_33 d q3.2 v2 (w32 (Int.tdiv v3 10)))
  else
    some (0, σ) :=
  ga_blk_eq am_G (am_run d) mt_m_putNumber 16 33 [(0, 12, 0), (2, 0, v2), (3, 0, v3)] [] σ
set_option maxRecDepth 100000 in
theorem e_m_foundIn (d : Nat) (σ : ga_S) (a1 a2 : Int) : c_m_foundIn (d + 1) σ a1 a2 = m_foundIn_2 d σ a1 a2 0 :=
  ga_blk_eq am_G (am_run d) mt_m_foundIn 2 0 [(0, 12, 0), (1, 0, a1), (2, 0, a2)] [] σ
set_option maxRecDepth 100000 in
theorem e_m_foundIn_2 (d : Nat) (σ : ga_S) (v1 v2 v3 : Int) : m_foundIn_2 d σ v1 v2 v3 = if v3 < v2 then
    ga_ck (w32 (v1 + v3)) 64 ((c_m_keyOf d σ (σ fM_inside 0 (w32 (v1 + v3)))).bind fun q1 =>
        if q1.1 = 3 then
          m_foundIn_2 d q1.2 v1 v2 (w32 (v3 + 1))
        else
          some ((-1), q1.2))
  else
    if v2 < 1 then
      m_foundIn_41 d σ
    else
      if 3 < v2 then
        m_foundIn_41 d σ
      else
        ga_ck v1 64 (if 1 < v2 then
            ga_ck (w32 (v1 + 1)) 64 (m_foundIn_69 d σ v1 v2 (σ fM_inside 0 (w32 (v1 + 1))) (σ fM_inside 0 v1))
          else
            m_foundIn_69 d σ v1 v2 0 (σ fM_inside 0 v1)) :=
  ga_blk_eq am_G (am_run d) mt_m_foundIn 24 2 [(0, 12, 0), (1, 0, v1), (2, 0, v2), (3, 0, v3)] [] σ
set_option maxRecDepth 100000 in
theorem e_m_foundIn_41 (d : Nat) (σ : ga_S) : m_foundIn_41 d σ = some ((-1), σ) :=
  ga_blk_eq am_G (am_run d) mt_m_foundIn 3 41 [] [] σ
set_option maxRecDepth 100000 in
theorem e_m_foundIn_69 (d : Nat) (σ : ga_S) (v1 v2 s0 s1 : Int) : m_foundIn_69 d σ v1 v2 s0 s1 = if 2 < v2 then
    ga_ck (w32 (v1 + 2)) 64 (m_foundIn_86 d σ v2 (σ fM_inside 0 (w32 (v1 + 2))) s0 s1)
  else
    m_foundIn_86 d σ v2 0 s0 s1 :=
  ga_blk_eq am_G (am_run d) mt_m_foundIn 10 69 [(0, 12, 0), (1, 0, v1), (2, 0, v2)] [(1, s0), (1, s1), (12, 0)] σ
set_option maxRecDepth 100000 in
theorem e_m_foundIn_86 (d : Nat) (σ : ga_S) (v2 s0 s1 s2 : Int) : m_foundIn_86 d σ v2 s0 s1 s2 = (c_m_find d σ s2 s1 s0 v2).bind fun q2 =>
    some (q2.1, q2.2) :=
  ga_blk_eq am_G (am_run d) mt_m_foundIn 3 86 [(2, 0, v2)] [(1, s0), (1, s1), (1, s2), (12, 0)] σ
set_option maxRecDepth 100000 in
theorem e_m_insideThing (d : Nat) (σ : ga_S) (a1 : Int) : c_m_insideThing (d + 1) σ a1 = if 0 < (w32 ((σ fM_insides 0 0) - a1)) then
    ga_ck (w32 ((σ fM_insides 0 0) - 1)) 64 ((c_m_keyOf d σ (σ fM_inside 0 (w32 ((σ fM_insides 0 0) - 1)))).bind fun q1 =>
        if q1.1 = 153 then
          if (w32 ((σ fM_insides 0 0) - a1)) = 1 then
            m_insideThing_57 d q1.2
          else
            if (w32 ((σ fM_insides 0 0) - a1)) = 2 then
              ga_ck a1 64 ((c_m_keyOf d q1.2 (q1.2 fM_inside 0 a1)).bind fun q2 =>
                  if q2.1 = 102 then
                    m_insideThing_57 d q2.2
                  else
                    m_insideThing_61 d q2.2)
            else
              m_insideThing_61 d q1.2
        else
          m_insideThing_101 d q1.2 a1 (w32 ((σ fM_insides 0 0) - a1)))
  else
    m_insideThing_101 d σ a1 (w32 ((σ fM_insides 0 0) - a1)) :=
  ga_blk_eq am_G (am_run d) mt_m_insideThing 32 0 [(0, 12, 0), (1, 0, a1)] [] σ
set_option maxRecDepth 100000 in
theorem e_m_insideThing_101 (d : Nat) (σ : ga_S) (v1 v2 : Int) : m_insideThing_101 d σ v1 v2 = if 0 < v2 then
    ga_ck v1 64 ((c_m_keyOf d σ (σ fM_inside 0 v1)).bind fun q3 =>
        (c_m_isArt d q3.2 q3.1).bind fun q4 =>
          if q4.1 = 0 then
            m_insideThing_127 d q4.2 v1
          else
            m_insideThing_128 d q4.2 (w32 (v1 + 1)))
  else
    m_insideThing_127 d σ v1 :=
  ga_blk_eq am_G (am_run d) mt_m_insideThing 14 101 [(0, 12, 0), (1, 0, v1), (2, 0, v2)] [] σ
set_option maxRecDepth 100000 in
theorem e_m_insideThing_57 (d : Nat) (σ : ga_S) : m_insideThing_57 d σ = m_insideThing_62 d σ 1 :=
  ga_blk_eq am_G (am_run d) mt_m_insideThing 2 57 [(0, 12, 0)] [] σ
set_option maxRecDepth 100000 in
theorem e_m_insideThing_61 (d : Nat) (σ : ga_S) : m_insideThing_61 d σ = m_insideThing_62 d σ 0 :=
  ga_blk_eq am_G (am_run d) mt_m_insideThing 1 61 [(0, 12, 0)] [] σ
set_option maxRecDepth 100000 in
theorem e_m_insideThing_127 (d : Nat) (σ : ga_S) (v1 : Int) : m_insideThing_127 d σ v1 = m_insideThing_128 d σ v1 :=
  ga_blk_eq am_G (am_run d) mt_m_insideThing 1 127 [(0, 12, 0), (1, 0, v1)] [] σ
set_option maxRecDepth 100000 in
theorem e_m_insideThing_128 (d : Nat) (σ : ga_S) (s0 : Int) : m_insideThing_128 d σ s0 = (c_m_foundIn d σ s0 (w32 ((σ fM_insides 0 0) - s0))).bind fun q5 =>
    if q5.1 = (-1) then
      some ((-9), q5.2)
    else
      ga_ck q5.1 300 (if (q5.2 fM_lexSort 0 q5.1) = 4 then
          ga_ck q5.1 300 (some ((q5.2 fM_lexIndex 0 q5.1), q5.2))
        else
          some ((-9), q5.2)) :=
  ga_blk_eq am_G (am_run d) mt_m_insideThing 24 128 [(0, 12, 0)] [(0, s0)] σ
set_option maxRecDepth 100000 in
theorem e_m_insideThing_62 (d : Nat) (σ : ga_S) (s0 : Int) : m_insideThing_62 d σ s0 = if s0 = 0 then
    some ((-9), σ)
  else
    if (σ fM_isDry 0 0) = 0 then
      if (σ fM_nounObject 0 0) = (-1) then
        some ((-9), σ)
      else
        m_insideThing_93 d σ
    else
      if (σ fM_nounKind 0 0) = (-1) then
        some ((-9), σ)
      else
        m_insideThing_93 d σ :=
  ga_blk_eq am_G (am_run d) mt_m_insideThing 12 62 [(0, 12, 0)] [(0, s0)] σ
set_option maxRecDepth 100000 in
theorem e_m_insideThing_93 (d : Nat) (σ : ga_S) : m_insideThing_93 d σ = some ((-2), σ) :=
  ga_blk_eq am_G (am_run d) mt_m_insideThing 3 93 [] [] σ
set_option maxRecDepth 100000 in
theorem e_m_saysInside (d : Nat) (σ : ga_S) : c_m_saysInside (d + 1) σ = m_saysInside_2 d σ 1 :=
  ga_blk_eq am_G (am_run d) mt_m_saysInside 2 0 [(0, 12, 0)] [] σ
set_option maxRecDepth 100000 in
theorem e_m_saysInside_2 (d : Nat) (σ : ga_S) (v1 : Int) : m_saysInside_2 d σ v1 = if v1 < (σ fM_insides 0 0) then
    ga_ck v1 64 ((c_m_keyOf d σ (σ fM_inside 0 v1)).bind fun q1 =>
        if q1.1 = 3 then
          m_saysInside_2 d q1.2 (w32 (v1 + 1))
        else
          m_saysInside_30 d q1.2 v1)
  else
    m_saysInside_30 d σ v1 :=
  ga_blk_eq am_G (am_run d) mt_m_saysInside 14 2 [(0, 12, 0), (1, 0, v1)] [] σ
set_option maxRecDepth 100000 in
theorem e_m_saysInside_30 (d : Nat) (σ : ga_S) (v1 : Int) : m_saysInside_30 d σ v1 = if 0 < (σ fM_insides 0 0) then
    (c_m_keyOf d σ (σ fM_inside 0 0)).bind fun q2 =>
      if q2.1 = 102 then
        if 1 < v1 then
          if v1 < (q2.2 fM_insides 0 0) then
            ga_ck v1 64 ((c_m_keyOf d q2.2 (q2.2 fM_inside 0 v1)).bind fun q3 =>
                if q3.1 = 107 then
                  m_saysInside_85 d q3.2 v1 1
                else
                  m_saysInside_84 d q3.2 v1)
          else
            m_saysInside_84 d q2.2 v1
        else
          m_saysInside_84 d q2.2 v1
      else
        m_saysInside_84 d q2.2 v1
  else
    m_saysInside_84 d σ v1 :=
  ga_blk_eq am_G (am_run d) mt_m_saysInside 28 30 [(0, 12, 0), (1, 0, v1)] [] σ
set_option maxRecDepth 100000 in
theorem e_m_saysInside_84 (d : Nat) (σ : ga_S) (v1 : Int) : m_saysInside_84 d σ v1 = m_saysInside_85 d σ v1 0 :=
  ga_blk_eq am_G (am_run d) mt_m_saysInside 1 84 [(0, 12, 0), (1, 0, v1)] [] σ
set_option maxRecDepth 100000 in
theorem e_m_saysInside_85 (d : Nat) (σ : ga_S) (v1 s0 : Int) : m_saysInside_85 d σ v1 s0 = if s0 = 0 then
    m_saysInside_98 d σ v1 s0 0
  else
    m_saysInside_98 d σ v1 s0 (w32 (v1 + 1)) :=
  ga_blk_eq am_G (am_run d) mt_m_saysInside 8 85 [(0, 12, 0), (1, 0, v1)] [(0, s0)] σ
set_option maxRecDepth 100000 in
theorem e_m_saysInside_98 (d : Nat) (σ : ga_S) (v1 v2 s0 : Int) : m_saysInside_98 d σ v1 v2 s0 = (c_m_insideThing d σ s0).bind fun q4 =>
    if q4.1 = (-9) then
      some (0, q4.2)
    else
      if q4.1 = (-2) then
        m_saysInside_124 d q4.2 v1 v2 q4.1 (q4.2 fM_nounObject 0 0)
      else
        m_saysInside_124 d q4.2 v1 v2 q4.1 q4.1 :=
  ga_blk_eq am_G (am_run d) mt_m_saysInside 11 98 [(0, 12, 0), (1, 0, v1), (2, 0, v2)] [(0, s0), (12, 0)] σ
set_option maxRecDepth 100000 in
theorem e_m_saysInside_124 (d : Nat) (σ : ga_S) (v1 v2 v3 s0 : Int) : m_saysInside_124 d σ v1 v2 v3 s0 = if v2 = 0 then
    if (σ fM_isDry 0 0) = 0 then
      (c_m_lexOf d σ 4 s0).bind fun q6 =>
        (c_m_putLex d q6.2 q6.1).bind fun q7 =>
          some (1, q7.2)
    else
      some (1, σ)
  else
    (c_m_foundIn d σ 1 (w32 (v1 - 1))).bind fun q5 =>
      if q5.1 = (-1) then
        m_saysInside_188 d q5.2 v3 s0
      else
        ga_ck q5.1 300 (if (q5.2 fM_lexSort 0 q5.1) = 7 then
            ga_ck q5.1 300 (m_saysInside_189 d q5.2 v3 s0 (q5.2 fM_lexIndex 0 q5.1))
          else
            m_saysInside_188 d q5.2 v3 s0) :=
  ga_blk_eq am_G (am_run d) mt_m_saysInside 24 124 [(0, 12, 0), (1, 0, v1), (2, 0, v2), (3, 0, v3)] [(0, s0)] σ
set_option maxRecDepth 100000 in
theorem e_m_saysInside_188 (d : Nat) (σ : ga_S) (v3 v4 : Int) : m_saysInside_188 d σ v3 v4 = m_saysInside_189 d σ v3 v4 (-1) :=
  ga_blk_eq am_G (am_run d) mt_m_saysInside 1 188 [(0, 12, 0), (3, 0, v3), (4, 0, v4)] [] σ
set_option maxRecDepth 100000 in
theorem e_m_saysInside_189 (d : Nat) (σ : ga_S) (v3 v4 s0 : Int) : m_saysInside_189 d σ v3 v4 s0 = if (σ fM_isDry 0 0) = 0 then
    ga_ck v4 24 (m_saysInside_213 d σ v4 s0 (σ fM_kindOf 0 v4))
  else
    (c_m_kindOfThing d σ v3).bind fun q8 =>
      m_saysInside_213 d q8.2 v4 s0 q8.1 :=
  ga_blk_eq am_G (am_run d) mt_m_saysInside 8 189 [(0, 12, 0), (3, 0, v3), (4, 0, v4)] [(0, s0)] σ
set_option maxRecDepth 100000 in
theorem e_m_saysInside_213 (d : Nat) (σ : ga_S) (v4 v6 s0 : Int) : m_saysInside_213 d σ v4 v6 s0 = if v6 = (-1) then
    some (0, σ)
  else
    (c_m_has d σ s0 v6).bind fun q9 =>
      if q9.1 = 0 then
        some (0, q9.2)
      else
        if (q9.2 fM_isDry 0 0) = 0 then
          (c_m_putProperty d q9.2 v4 v6).bind fun q10 =>
            some (1, q10.2)
        else
          some (1, q9.2) :=
  ga_blk_eq am_G (am_run d) mt_m_saysInside 18 213 [(0, 12, 0), (4, 0, v4), (6, 0, v6)] [(0, s0)] σ
set_option maxRecDepth 100000 in
theorem e_m_putProperty (d : Nat) (σ : ga_S) (a1 a2 : Int) : c_m_putProperty (d + 1) σ a1 a2 = (c_m_numberOf d σ a1 a2).bind fun q1 =>
    ga_ck a2 12 (if (q1.2 fM_propertyType 0 a2) = 0 then
        (c_m_putNumber d q1.2 q1.1).bind fun q4 =>
          some (0, q4.2)
      else
        ga_ck a2 12 (if (q1.2 fM_propertyType 0 a2) = 1 then
            m_putProperty_43 d q1.2 q1.1 (q1.2 fM_numberLong 0 0) 0
          else
            if q1.1 = (-1) then
              some (0, q1.2)
            else
              (c_m_lexOf d q1.2 6 q1.1).bind fun q2 =>
                (c_m_putLex d q2.2 q2.1).bind fun q3 =>
                  some (0, q3.2))) :=
  ga_blk_eq am_G (am_run d) mt_m_putProperty 29 0 [(0, 12, 0), (1, 0, a1), (2, 0, a2)] [] σ
set_option maxRecDepth 100000 in
theorem e_m_putProperty_43 (d : Nat) (σ : ga_S) (v3 v4 v5 : Int) : m_putProperty_43 d σ v3 v4 v5 = if v5 < v4 then
    ga_ck (w32 (v3 + v5)) 5000 ((c_m_put d σ (σ fM_story 0 (w32 (v3 + v5)))).bind fun q5 =>
        m_putProperty_43 d q5.2 v3 v4 (w32 (v5 + 1)))
  else
    some (0, σ) :=
  ga_blk_eq am_G (am_run d) mt_m_putProperty 13 43 [(0, 12, 0), (3, 0, v3), (4, 0, v4), (5, 0, v5)] [] σ
set_option maxRecDepth 100000 in
theorem e_m_words (d : Nat) (σ : ga_S) (a1 a2 : Int) : c_m_words (d + 1) σ a1 a2 = m_words_7 d (ga_up σ fM_insides 0 0 0) a2 a1 :=
  ga_blk_eq am_G (am_run d) mt_m_words 5 0 [(0, 12, 0), (1, 0, a1), (2, 0, a2)] [] σ
set_option maxRecDepth 100000 in
theorem e_m_words_7 (d : Nat) (σ : ga_S) (v2 v3 : Int) : m_words_7 d σ v2 v3 = if v3 < v2 then
    ga_ck v3 5000 (if (σ fM_story 0 v3) = 93 then
        m_words_139 d σ v2 v3
      else
        ga_ck v3 5000 (if (σ fM_story 0 v3) = 32 then
            m_words_7 d σ v2 (w32 (v3 + 1))
          else
            ga_ck v3 5000 ((c_m_isLetter d σ (σ fM_story 0 v3)).bind fun q1 =>
                if q1.1 = 0 then
                  some ((-1), q1.2)
                else
                  m_words_55 d q1.2 v2 v3 v3)))
  else
    m_words_139 d σ v2 v3 :=
  ga_blk_eq am_G (am_run d) mt_m_words 23 7 [(0, 12, 0), (2, 0, v2), (3, 0, v3)] [] σ
set_option maxRecDepth 100000 in
theorem e_m_words_139 (d : Nat) (σ : ga_S) (v2 v3 : Int) : m_words_139 d σ v2 v3 = if v3 < v2 then
    some ((w32 (v3 + 1)), σ)
  else
    some ((-1), σ) :=
  ga_blk_eq am_G (am_run d) mt_m_words 8 139 [(2, 0, v2), (3, 0, v3)] [] σ
set_option maxRecDepth 100000 in
theorem e_m_words_55 (d : Nat) (σ : ga_S) (v2 v3 v4 : Int) : m_words_55 d σ v2 v3 v4 = if v4 < v2 then
    ga_ck v4 5000 ((c_m_isLetter d σ (σ fM_story 0 v4)).bind fun q2 =>
        if q2.1 = 0 then
          m_words_80 d q2.2 v2 v3 v4
        else
          m_words_55 d q2.2 v2 v3 (w32 (v4 + 1)))
  else
    m_words_80 d σ v2 v3 v4 :=
  ga_blk_eq am_G (am_run d) mt_m_words 11 55 [(0, 12, 0), (2, 0, v2), (3, 0, v3), (4, 0, v4)] [] σ
set_option maxRecDepth 100000 in
theorem e_m_words_80 (d : Nat) (σ : ga_S) (v2 v3 v4 : Int) : m_words_80 d σ v2 v3 v4 = if 12 < (w32 (v4 - v3)) then
    some ((-1), σ)
  else
    if (σ fM_insides 0 0) = 64 then
      some ((-1), σ)
    else
      (c_m_wordOf_story d σ v3 (w32 (v4 - v3))).bind fun q3 =>
        ga_ck (σ fM_insides 0 0) 64 (m_words_7 d (ga_up (ga_up q3.2 fM_inside 0 (σ fM_insides 0 0) q3.1) fM_insides 0 0 (w32 ((q3.2 fM_insides 0 0) + 1))) v2 v4) :=
  ga_blk_eq am_G (am_run d) mt_m_words 30 80 [(0, 12, 0), (2, 0, v2), (3, 0, v3), (4, 0, v4)] [] σ
set_option maxRecDepth 100000 in
theorem e_m_written (d : Nat) (σ : ga_S) (a1 a2 : Int) : c_m_written (d + 1) σ a1 a2 = m_written_7 d σ a1 (w32 (a1 + a2)) :=
  ga_blk_eq am_G (am_run d) mt_m_written 6 0 [(0, 12, 0), (1, 0, a1), (2, 0, a2)] [] σ
set_option maxRecDepth 100000 in
theorem e_m_written_7 (d : Nat) (σ : ga_S) (v3 v4 : Int) : m_written_7 d σ v3 v4 = if v3 < v4 then
    ga_ck v3 5000 (if (σ fM_story 0 v3) = 93 then
        some (0, σ)
      else
        ga_ck v3 5000 (if (σ fM_story 0 v3) = 91 then
            (c_m_words d σ (w32 (v3 + 1)) v4).bind fun q2 =>
              if q2.1 = (-1) then
                some (0, q2.2)
              else
                (c_m_saysInside d q2.2).bind fun q3 =>
                  if q3.1 = 0 then
                    some (0, q3.2)
                  else
                    m_written_7 d q3.2 q2.1 v4
          else
            ga_ck v3 5000 ((c_m_put d σ (σ fM_story 0 v3)).bind fun q1 =>
                m_written_7 d q1.2 (w32 (v3 + 1)) v4)))
  else
    some (1, σ) :=
  ga_blk_eq am_G (am_run d) mt_m_written 30 7 [(0, 12, 0), (3, 0, v3), (4, 0, v4)] [] σ
set_option maxRecDepth 100000 in
theorem e_m_says (d : Nat) (σ : ga_S) (a1 a2 a3 : Int) : c_m_says (d + 1) σ a1 a2 a3 = (c_m_written d (ga_up (ga_up σ fM_isDry 0 0 1) fM_nounObject 0 0 a3) a1 a2).bind fun q1 =>
    ga_01 q1.1 (some (q1.1, (ga_up q1.2 fM_isDry 0 0 0))) :=
  ga_blk_eq am_G (am_run d) mt_m_says 16 0 [(0, 12, 0), (1, 0, a1), (2, 0, a2), (3, 0, a3)] [] σ
set_option maxRecDepth 100000 in
theorem e_m_leadsTo (d : Nat) (σ : ga_S) (a1 a2 : Int) : c_m_leadsTo (d + 1) σ a1 a2 = m_leadsTo_2 d σ a1 a2 0 :=
  ga_blk_eq am_G (am_run d) mt_m_leadsTo 2 0 [(0, 12, 0), (1, 0, a1), (2, 0, a2)] [] σ
set_option maxRecDepth 100000 in
theorem e_m_leadsTo_2 (d : Nat) (σ : ga_S) (v1 v2 v3 : Int) : m_leadsTo_2 d σ v1 v2 v3 = if v3 < (σ fM_ways 0 0) then
    ga_ck v3 200 (if (σ fM_wayFrom 0 v3) = v1 then
        ga_ck v3 200 (if (σ fM_wayBy 0 v3) = v2 then
            ga_ck v3 200 (some ((σ fM_wayTo 0 v3), σ))
          else
            m_leadsTo_37 d σ v1 v2 v3)
      else
        m_leadsTo_37 d σ v1 v2 v3)
  else
    m_leadsTo_45 d σ v1 v2 0 :=
  ga_blk_eq am_G (am_run d) mt_m_leadsTo 21 2 [(0, 12, 0), (1, 0, v1), (2, 0, v2), (3, 0, v3)] [] σ
set_option maxRecDepth 100000 in
theorem e_m_leadsTo_45 (d : Nat) (σ : ga_S) (v1 v2 v3 : Int) : m_leadsTo_45 d σ v1 v2 v3 = if v3 < (σ fM_ways 0 0) then
    ga_ck v3 200 (if (σ fM_wayTo 0 v3) = v1 then
        ga_ck v3 200 (if (σ fM_wayBy 0 v3) = (ga_ixor v2 1) then
            ga_ck v3 200 (some ((σ fM_wayFrom 0 v3), σ))
          else
            m_leadsTo_82 d σ v1 v2 v3)
      else
        m_leadsTo_82 d σ v1 v2 v3)
  else
    some ((-1), σ) :=
  ga_blk_eq am_G (am_run d) mt_m_leadsTo 23 45 [(0, 12, 0), (1, 0, v1), (2, 0, v2), (3, 0, v3)] [] σ
set_option maxRecDepth 100000 in
theorem e_m_leadsTo_37 (d : Nat) (σ : ga_S) (v1 v2 v3 : Int) : m_leadsTo_37 d σ v1 v2 v3 = m_leadsTo_2 d σ v1 v2 (w32 (v3 + 1)) :=
  ga_blk_eq am_G (am_run d) mt_m_leadsTo 2 37 [(0, 12, 0), (1, 0, v1), (2, 0, v2), (3, 0, v3)] [] σ
set_option maxRecDepth 100000 in
theorem e_m_leadsTo_82 (d : Nat) (σ : ga_S) (v1 v2 v3 : Int) : m_leadsTo_82 d σ v1 v2 v3 = m_leadsTo_45 d σ v1 v2 (w32 (v3 + 1)) :=
  ga_blk_eq am_G (am_run d) mt_m_leadsTo 2 82 [(0, 12, 0), (1, 0, v1), (2, 0, v2), (3, 0, v3)] [] σ
set_option maxRecDepth 100000 in
theorem e_m_orderClass (d : Nat) (σ : ga_S) (a1 : Int) : c_m_orderClass (d + 1) σ a1 = ga_ck a1 24 (if (σ fM_ruleObject 0 a1) = (-1) then
      ga_ck a1 24 (if (σ fM_ruleKind 0 a1) = (-1) then
          some (2, σ)
        else
          some (1, σ))
    else
      some (0, σ)) :=
  ga_blk_eq am_G (am_run d) mt_m_orderClass 15 0 [(0, 12, 0), (1, 0, a1)] [] σ
set_option maxRecDepth 100000 in
theorem e_m_depthOf (d : Nat) (σ : ga_S) (a1 : Int) : c_m_depthOf (d + 1) σ a1 = m_depthOf_4 d σ 0 a1 :=
  ga_blk_eq am_G (am_run d) mt_m_depthOf 4 0 [(0, 12, 0), (1, 0, a1)] [] σ
set_option maxRecDepth 100000 in
theorem e_m_depthOf_4 (d : Nat) (σ : ga_S) (v2 v3 : Int) : m_depthOf_4 d σ v2 v3 = if v3 < 0 then
    some (v2, σ)
  else
    ga_ck v3 16 (m_depthOf_4 d σ (w32 (v2 + 1)) (σ fM_above 0 v3)) :=
  ga_blk_eq am_G (am_run d) mt_m_depthOf 9 4 [(0, 12, 0), (2, 0, v2), (3, 0, v3)] [] σ
set_option maxRecDepth 100000 in
theorem e_m_isAhead (d : Nat) (σ : ga_S) (a1 a2 : Int) : c_m_isAhead (d + 1) σ a1 a2 = (c_m_orderClass d σ a1).bind fun q1 =>
    (c_m_orderClass d q1.2 a2).bind fun q2 =>
      if q1.1 = q2.1 then
        (c_m_orderClass d q2.2 a1).bind fun q3 =>
          if q3.1 = 1 then
            ga_ck a1 24 ((c_m_depthOf d q3.2 (q3.2 fM_ruleKind 0 a1)).bind fun q4 =>
                ga_ck a2 24 ((c_m_depthOf d q4.2 (q4.2 fM_ruleKind 0 a2)).bind fun q5 =>
                    if q4.1 = q5.1 then
                      m_isAhead_93 d q5.2 a1 a2
                    else
                      ga_ck a1 24 ((c_m_depthOf d q5.2 (q5.2 fM_ruleKind 0 a1)).bind fun q6 =>
                          ga_ck a2 24 ((c_m_depthOf d q6.2 (q6.2 fM_ruleKind 0 a2)).bind fun q7 =>
                              if q7.1 < q6.1 then
                                some (1, q7.2)
                              else
                                some (0, q7.2)))))
          else
            m_isAhead_93 d q3.2 a1 a2
      else
        (c_m_orderClass d q2.2 a1).bind fun q8 =>
          (c_m_orderClass d q8.2 a2).bind fun q9 =>
            if q8.1 < q9.1 then
              some (1, q9.2)
            else
              some (0, q9.2) :=
  ga_blk_eq am_G (am_run d) mt_m_isAhead 41 0 [(0, 12, 0), (1, 0, a1), (2, 0, a2)] [] σ
set_option maxRecDepth 100000 in
theorem e_m_isAhead_93 (d : Nat) (σ : ga_S) (v1 v2 : Int) : m_isAhead_93 d σ v1 v2 = (c_m_orderClass d σ v1).bind fun q10 =>
    if q10.1 = 1 then
      ga_ck v1 24 (ga_ck v2 24 (if (q10.2 fM_ruleAdjectives 0 v1) = (q10.2 fM_ruleAdjectives 0 v2) then
            m_isAhead_138 d q10.2 v1 v2
          else
            ga_ck v1 24 (ga_ck v2 24 (if (q10.2 fM_ruleAdjectives 0 v2) < (q10.2 fM_ruleAdjectives 0 v1) then
                  some (1, q10.2)
                else
                  some (0, q10.2)))))
    else
      m_isAhead_138 d q10.2 v1 v2 :=
  ga_blk_eq am_G (am_run d) mt_m_isAhead 26 93 [(0, 12, 0), (1, 0, v1), (2, 0, v2)] [] σ
set_option maxRecDepth 100000 in
theorem e_m_isAhead_138 (d : Nat) (σ : ga_S) (v1 v2 : Int) : m_isAhead_138 d σ v1 v2 = ga_ck v1 24 (ga_ck v2 24 (if (σ fM_ruleTests 0 v1) = (σ fM_ruleTests 0 v2) then
        if v1 < v2 then
          some (1, σ)
        else
          some (0, σ)
      else
        ga_ck v1 24 (ga_ck v2 24 (if (σ fM_ruleTests 0 v2) < (σ fM_ruleTests 0 v1) then
              some (1, σ)
            else
              some (0, σ))))) :=
  ga_blk_eq am_G (am_run d) mt_m_isAhead 21 138 [(0, 12, 0), (1, 0, v1), (2, 0, v2)] [] σ
set_option maxRecDepth 100000 in
theorem e_m_orderOf (d : Nat) (σ : ga_S) (a1 : Int) : c_m_orderOf (d + 1) σ a1 = m_orderOf_4 d σ a1 0 0 :=
  ga_blk_eq am_G (am_run d) mt_m_orderOf 4 0 [(0, 12, 0), (1, 0, a1)] [] σ
set_option maxRecDepth 100000 in
theorem e_m_orderOf_4 (d : Nat) (σ : ga_S) (v1 v2 v3 : Int) : m_orderOf_4 d σ v1 v2 v3 = if v3 < (σ fM_rules 0 0) then
    if v3 = v1 then
      m_orderOf_46 d σ v1 v3 v2
    else
      ga_ck v3 24 (ga_ck v1 24 (if (σ fM_ruleSort 0 v3) = (σ fM_ruleSort 0 v1) then
            (c_m_isAhead d σ v3 v1).bind fun q1 =>
              if q1.1 = 0 then
                m_orderOf_46 d q1.2 v1 v3 v2
              else
                m_orderOf_47 d q1.2 v1 v3 1 v2
          else
            m_orderOf_46 d σ v1 v3 v2))
  else
    some (v2, σ) :=
  ga_blk_eq am_G (am_run d) mt_m_orderOf 24 4 [(0, 12, 0), (1, 0, v1), (2, 0, v2), (3, 0, v3)] [] σ
set_option maxRecDepth 100000 in
theorem e_m_orderOf_46 (d : Nat) (σ : ga_S) (v1 v3 s0 : Int) : m_orderOf_46 d σ v1 v3 s0 = m_orderOf_47 d σ v1 v3 0 s0 :=
  ga_blk_eq am_G (am_run d) mt_m_orderOf 1 46 [(0, 12, 0), (1, 0, v1), (3, 0, v3)] [(0, s0)] σ
set_option maxRecDepth 100000 in
theorem e_m_orderOf_47 (d : Nat) (σ : ga_S) (v1 v3 s0 s1 : Int) : m_orderOf_47 d σ v1 v3 s0 s1 = m_orderOf_4 d σ v1 (w32 (s1 + s0)) (w32 (v3 + 1)) :=
  ga_blk_eq am_G (am_run d) mt_m_orderOf 4 47 [(0, 12, 0), (1, 0, v1), (3, 0, v3)] [(0, s0), (0, s1)] σ
set_option maxRecDepth 100000 in
theorem e_m_ruleAt (d : Nat) (σ : ga_S) (a1 a2 : Int) : c_m_ruleAt (d + 1) σ a1 a2 = m_ruleAt_2 d σ a1 a2 0 :=
  ga_blk_eq am_G (am_run d) mt_m_ruleAt 2 0 [(0, 12, 0), (1, 0, a1), (2, 0, a2)] [] σ
set_option maxRecDepth 100000 in
theorem e_m_ruleAt_2 (d : Nat) (σ : ga_S) (v1 v2 v3 : Int) : m_ruleAt_2 d σ v1 v2 v3 = if v3 < (σ fM_rules 0 0) then
    ga_ck v3 24 (if (σ fM_ruleSort 0 v3) = v1 then
        (c_m_orderOf d σ v3).bind fun q1 =>
          if q1.1 = v2 then
            some (v3, q1.2)
          else
            m_ruleAt_31 d q1.2 v1 v2 v3
      else
        m_ruleAt_31 d σ v1 v2 v3)
  else
    some ((-1), σ) :=
  ga_blk_eq am_G (am_run d) mt_m_ruleAt 17 2 [(0, 12, 0), (1, 0, v1), (2, 0, v2), (3, 0, v3)] [] σ
set_option maxRecDepth 100000 in
theorem e_m_ruleAt_31 (d : Nat) (σ : ga_S) (v1 v2 v3 : Int) : m_ruleAt_31 d σ v1 v2 v3 = m_ruleAt_2 d σ v1 v2 (w32 (v3 + 1)) :=
  ga_blk_eq am_G (am_run d) mt_m_ruleAt 2 31 [(0, 12, 0), (1, 0, v1), (2, 0, v2), (3, 0, v3)] [] σ
set_option maxRecDepth 100000 in
theorem e_m_applies (d : Nat) (σ : ga_S) (a1 a2 a3 : Int) : c_m_applies (d + 1) σ a1 a2 a3 = ga_ck a1 24 (if (σ fM_ruleSort 0 a1) < 3 then
      ga_ck a1 24 (if (σ fM_ruleAction 0 a1) = a2 then
          ga_ck a1 24 (if (σ fM_ruleObject 0 a1) = (-1) then
              m_applies_40 d σ a1 a3
            else
              ga_ck a1 24 (if (σ fM_ruleObject 0 a1) = a3 then
                  m_applies_40 d σ a1 a3
                else
                  m_applies_44 d σ a1 a3))
        else
          m_applies_44 d σ a1 a3)
    else
      m_applies_140 d σ a1 a3) :=
  ga_blk_eq am_G (am_run d) mt_m_applies 24 0 [(0, 12, 0), (1, 0, a1), (2, 0, a2), (3, 0, a3)] [] σ
set_option maxRecDepth 100000 in
theorem e_m_applies_140 (d : Nat) (σ : ga_S) (v1 v3 : Int) : m_applies_140 d σ v1 v3 = m_applies_143 d σ v1 v3 0 :=
  ga_blk_eq am_G (am_run d) mt_m_applies 2 140 [(0, 12, 0), (1, 0, v1), (3, 0, v3)] [] σ
set_option maxRecDepth 100000 in
theorem e_m_applies_44 (d : Nat) (σ : ga_S) (v1 v3 : Int) : m_applies_44 d σ v1 v3 = m_applies_45 d σ v1 v3 0 :=
  ga_blk_eq am_G (am_run d) mt_m_applies 1 44 [(0, 12, 0), (1, 0, v1), (3, 0, v3)] [] σ
set_option maxRecDepth 100000 in
theorem e_m_applies_40 (d : Nat) (σ : ga_S) (v1 v3 : Int) : m_applies_40 d σ v1 v3 = m_applies_45 d σ v1 v3 1 :=
  ga_blk_eq am_G (am_run d) mt_m_applies 2 40 [(0, 12, 0), (1, 0, v1), (3, 0, v3)] [] σ
set_option maxRecDepth 100000 in
theorem e_m_applies_143 (d : Nat) (σ : ga_S) (v1 v3 v4 : Int) : m_applies_143 d σ v1 v3 v4 = ga_ck v1 24 (if v4 < (σ fM_ruleTests 0 v1) then
      ga_ck v1 24 ((c_m_tested d σ (w32 ((σ fM_ruleFrom 0 v1) + v4)) (-1) v3 0).bind fun q1 =>
          if q1.1 = 0 then
            some (0, q1.2)
          else
            m_applies_143 d q1.2 v1 v3 (w32 (v4 + 1)))
    else
      some (1, σ)) :=
  ga_blk_eq am_G (am_run d) mt_m_applies 20 143 [(0, 12, 0), (1, 0, v1), (3, 0, v3), (4, 0, v4)] [] σ
set_option maxRecDepth 100000 in
theorem e_m_applies_45 (d : Nat) (σ : ga_S) (v1 v3 s0 : Int) : m_applies_45 d σ v1 v3 s0 = if s0 = 0 then
    m_applies_85 d σ v1 v3
  else
    ga_ck v1 24 (if (σ fM_ruleKind 0 v1) = (-1) then
        m_applies_81 d σ v1 v3
      else
        ga_ck v3 24 (ga_ck v1 24 ((c_m_isBelow d σ (σ fM_kindOf 0 v3) (σ fM_ruleKind 0 v1)).bind fun q2 =>
              if q2.1 = 0 then
                m_applies_85 d q2.2 v1 v3
              else
                m_applies_81 d q2.2 v1 v3))) :=
  ga_blk_eq am_G (am_run d) mt_m_applies 20 45 [(0, 12, 0), (1, 0, v1), (3, 0, v3)] [(0, s0)] σ
set_option maxRecDepth 100000 in
theorem e_m_applies_85 (d : Nat) (σ : ga_S) (v1 v3 : Int) : m_applies_85 d σ v1 v3 = m_applies_86 d σ v1 v3 0 :=
  ga_blk_eq am_G (am_run d) mt_m_applies 1 85 [(0, 12, 0), (1, 0, v1), (3, 0, v3)] [] σ
set_option maxRecDepth 100000 in
theorem e_m_applies_81 (d : Nat) (σ : ga_S) (v1 v3 : Int) : m_applies_81 d σ v1 v3 = m_applies_86 d σ v1 v3 1 :=
  ga_blk_eq am_G (am_run d) mt_m_applies 2 81 [(0, 12, 0), (1, 0, v1), (3, 0, v3)] [] σ
set_option maxRecDepth 100000 in
theorem e_m_applies_86 (d : Nat) (σ : ga_S) (v1 v3 s0 : Int) : m_applies_86 d σ v1 v3 s0 = m_applies_91 d σ v1 v3 s0 0 :=
  ga_blk_eq am_G (am_run d) mt_m_applies 3 86 [(0, 12, 0), (1, 0, v1), (3, 0, v3)] [(0, s0)] σ
set_option maxRecDepth 100000 in
theorem e_m_applies_91 (d : Nat) (σ : ga_S) (v1 v3 v4 v5 : Int) : m_applies_91 d σ v1 v3 v4 v5 = ga_ck v1 24 (if v5 < (σ fM_ruleAdjectives 0 v1) then
      if v4 = 0 then
        m_applies_133 d σ v1 v3 v4
      else
        ga_ck (w32 ((w32 (6 * v1)) + v5)) 144 ((c_m_holds d σ v3 (σ fM_ruleAdjective 0 (w32 ((w32 (6 * v1)) + v5))) 0).bind fun q3 =>
            m_applies_91 d q3.2 v1 v3 q3.1 (w32 (v5 + 1)))
    else
      m_applies_133 d σ v1 v3 v4) :=
  ga_blk_eq am_G (am_run d) mt_m_applies 23 91 [(0, 12, 0), (1, 0, v1), (3, 0, v3), (4, 0, v4), (5, 0, v5)] [] σ
set_option maxRecDepth 100000 in
theorem e_m_applies_133 (d : Nat) (σ : ga_S) (v1 v3 v4 : Int) : m_applies_133 d σ v1 v3 v4 = if v4 = 0 then
    some (0, σ)
  else
    m_applies_140 d σ v1 v3 :=
  ga_blk_eq am_G (am_run d) mt_m_applies 4 133 [(0, 12, 0), (1, 0, v1), (3, 0, v3), (4, 0, v4)] [] σ
set_option maxRecDepth 100000 in
theorem e_m_nows (d : Nat) (σ : ga_S) (a1 a2 : Int) : c_m_nows (d + 1) σ a1 a2 = ga_ck a1 2400 ((c_m_thingIs d σ (σ fM_qThing 0 a1) (-1) a2).bind fun q1 =>
      ga_ck a1 2400 (if (q1.2 fM_qForm 0 a1) = 5 then
          ga_ck a1 2400 (ga_ck a1 2400 ((c_m_thingIs d q1.2 (q1.2 fM_qOther 0 a1) (-1) a2).bind fun q2 =>
                m_nows_46 d q2.2 q1.1 (q1.2 fM_qProperty 0 a1) q2.1 0))
        else
          ga_ck a1 2400 (if (q1.2 fM_qForm 0 a1) = 3 then
              ga_ck a1 2400 (if (q1.2 fM_qWhat 0 a1) < 100 then
                  ga_ck a1 2400 (ga_ck a1 2400 (if (q1.2 fM_qNot 0 a1) = 0 then
                        m_nows_265 d q1.2 a1 q1.1 (q1.2 fM_qWhat 0 a1) 1 (w32 ((w32 (24 * q1.1)) + (q1.2 fM_qWhat 0 a1)))
                      else
                        m_nows_265 d q1.2 a1 q1.1 (q1.2 fM_qWhat 0 a1) 2 (w32 ((w32 (24 * q1.1)) + (q1.2 fM_qWhat 0 a1)))))
                else
                  m_nows_300 d q1.2 a1 q1.1)
            else
              m_nows_300 d q1.2 a1 q1.1))) :=
  ga_blk_eq am_G (am_run d) mt_m_nows 45 0 [(0, 12, 0), (1, 0, a1), (2, 0, a2)] [] σ
set_option maxRecDepth 100000 in
theorem e_m_nows_300 (d : Nat) (σ : ga_S) (v1 v3 : Int) : m_nows_300 d σ v1 v3 = ga_ck v1 2400 (if (σ fM_qForm 0 v1) = 3 then
      ga_ck v1 2400 (m_nows_328 d σ v1 v3 (w32 (Int.tmod (σ fM_qWhat 0 v1) 100)))
    else
      ga_ck v1 2400 (m_nows_328 d σ v1 v3 (σ fM_qProperty 0 v1))) :=
  ga_blk_eq am_G (am_run d) mt_m_nows 13 300 [(0, 12, 0), (1, 0, v1), (3, 0, v3)] [] σ
set_option maxRecDepth 100000 in
theorem e_m_nows_265 (d : Nat) (σ : ga_S) (v1 v3 v4 s0 s1 : Int) : m_nows_265 d σ v1 v3 v4 s0 s1 = ga_ck s1 576 (ga_ck v4 24 (ga_ck v1 2400 (if (σ fM_qNot 0 v1) = 0 then
          m_nows_296 d (ga_up σ fM_objectIs 0 s1 s0) 2 (w32 ((w32 (24 * v3)) + (σ fM_contrary 0 v4)))
        else
          m_nows_296 d (ga_up σ fM_objectIs 0 s1 s0) 1 (w32 ((w32 (24 * v3)) + (σ fM_contrary 0 v4)))))) :=
  ga_blk_eq am_G (am_run d) mt_m_nows 18 265 [(0, 12, 0), (1, 0, v1), (3, 0, v3), (4, 0, v4)] [(0, s0), (0, s1), (111, 0)] σ
set_option maxRecDepth 100000 in
theorem e_m_nows_46 (d : Nat) (σ : ga_S) (v3 v4 v5 v6 : Int) : m_nows_46 d σ v3 v4 v5 v6 = if v6 < (σ fM_objects 0 0) then
    ga_ck (w32 ((w32 ((w32 (576 * v4)) + (w32 (24 * v6)))) + v5)) 3456 (if (σ fM_related 0 (w32 ((w32 ((w32 (576 * v4)) + (w32 (24 * v6)))) + v5))) = 0 then
        m_nows_117 d σ v3 v4 v5 v6 (w32 ((w32 ((w32 (576 * v4)) + (w32 (24 * v6)))) + v5))
      else
        ga_ck v4 6 (if (σ fM_firstOne 0 v4) = 0 then
            m_nows_113 d σ v3 v4 v5 v6 (w32 ((w32 ((w32 (576 * v4)) + (w32 (24 * v6)))) + v5))
          else
            if v6 = v3 then
              m_nows_113 d σ v3 v4 v5 v6 (w32 ((w32 ((w32 (576 * v4)) + (w32 (24 * v6)))) + v5))
            else
              m_nows_117 d σ v3 v4 v5 v6 (w32 ((w32 ((w32 (576 * v4)) + (w32 (24 * v6)))) + v5))))
  else
    ga_ck (w32 ((w32 ((w32 (576 * v4)) + (w32 (24 * v3)))) + v5)) 3456 (some (0, (ga_up σ fM_related 0 (w32 ((w32 ((w32 (576 * v4)) + (w32 (24 * v3)))) + v5)) 1))) :=
  ga_blk_eq am_G (am_run d) mt_m_nows 36 46 [(0, 12, 0), (3, 0, v3), (4, 0, v4), (5, 0, v5), (6, 0, v6)] [] σ
set_option maxRecDepth 100000 in
theorem e_m_nows_328 (d : Nat) (σ : ga_S) (v1 v3 s0 : Int) : m_nows_328 d σ v1 v3 s0 = ga_ck (w32 ((w32 (12 * v3)) + s0)) 288 (ga_ck v1 2400 (if (σ fM_qForm 0 v1) = 3 then
        ga_ck v1 2400 (m_nows_384 d (ga_up σ fM_objectTold 0 (w32 ((w32 (12 * v3)) + s0)) 1) v1 v3 s0 (w32 ((w32 (Int.tdiv (σ fM_qWhat 0 v1) 100)) - 1)) (w32 ((w32 (12 * v3)) + s0)))
      else
        ga_ck v1 2400 (m_nows_384 d (ga_up σ fM_objectTold 0 (w32 ((w32 (12 * v3)) + s0)) 1) v1 v3 s0 (σ fM_qWhat 0 v1) (w32 ((w32 (12 * v3)) + s0))))) :=
  ga_blk_eq am_G (am_run d) mt_m_nows 32 328 [(0, 12, 0), (1, 0, v1), (3, 0, v3)] [(0, s0)] σ
set_option maxRecDepth 100000 in
theorem e_m_nows_296 (d : Nat) (σ : ga_S) (s0 s1 : Int) : m_nows_296 d σ s0 s1 = ga_ck s1 576 (some (0, (ga_up σ fM_objectIs 0 s1 s0))) :=
  ga_blk_eq am_G (am_run d) mt_m_nows 3 296 [] [(0, s0), (0, s1), (111, 0)] σ
set_option maxRecDepth 100000 in
theorem e_m_nows_117 (d : Nat) (σ : ga_S) (v3 v4 v5 v6 s0 : Int) : m_nows_117 d σ v3 v4 v5 v6 s0 = m_nows_118 d σ v3 v4 v5 v6 0 s0 :=
  ga_blk_eq am_G (am_run d) mt_m_nows 1 117 [(0, 12, 0), (3, 0, v3), (4, 0, v4), (5, 0, v5), (6, 0, v6)] [(0, s0), (126, 0)] σ
set_option maxRecDepth 100000 in
theorem e_m_nows_113 (d : Nat) (σ : ga_S) (v3 v4 v5 v6 s0 : Int) : m_nows_113 d σ v3 v4 v5 v6 s0 = m_nows_118 d σ v3 v4 v5 v6 1 s0 :=
  ga_blk_eq am_G (am_run d) mt_m_nows 2 113 [(0, 12, 0), (3, 0, v3), (4, 0, v4), (5, 0, v5), (6, 0, v6)] [(0, s0), (126, 0)] σ
set_option maxRecDepth 100000 in
theorem e_m_nows_384 (d : Nat) (σ : ga_S) (v1 v3 v4 s0 s1 : Int) : m_nows_384 d σ v1 v3 v4 s0 s1 = ga_ck s1 288 (ga_ck v1 2400 (if (σ fM_qForm 0 v1) = 3 then
        m_nows_416 d (ga_up σ fM_objectSays 0 s1 s0) 0 (w32 ((w32 (12 * v3)) + v4))
      else
        ga_ck v1 2400 (m_nows_416 d (ga_up σ fM_objectSays 0 s1 s0) (σ fM_qLong 0 v1) (w32 ((w32 (12 * v3)) + v4))))) :=
  ga_blk_eq am_G (am_run d) mt_m_nows 18 384 [(0, 12, 0), (1, 0, v1), (3, 0, v3), (4, 0, v4)] [(0, s0), (0, s1), (117, 0)] σ
set_option maxRecDepth 100000 in
theorem e_m_nows_118 (d : Nat) (σ : ga_S) (v3 v4 v5 v6 s0 s1 : Int) : m_nows_118 d σ v3 v4 v5 v6 s0 s1 = ga_ck s1 3456 (ga_01 s0 (ga_ck (w32 ((w32 ((w32 (576 * v4)) + (w32 (24 * v3)))) + v6)) 3456 (if ((ga_up σ fM_related 0 s1 s0) fM_related 0 (w32 ((w32 ((w32 (576 * v4)) + (w32 (24 * v3)))) + v6))) = 0 then
          m_nows_180 d (ga_up σ fM_related 0 s1 s0) v3 v4 v5 v6 (w32 ((w32 ((w32 (576 * v4)) + (w32 (24 * v3)))) + v6))
        else
          ga_ck v4 6 (if (σ fM_secondOne 0 v4) = 0 then
              m_nows_176 d (ga_up σ fM_related 0 s1 s0) v3 v4 v5 v6 (w32 ((w32 ((w32 (576 * v4)) + (w32 (24 * v3)))) + v6))
            else
              if v6 = v5 then
                m_nows_176 d (ga_up σ fM_related 0 s1 s0) v3 v4 v5 v6 (w32 ((w32 ((w32 (576 * v4)) + (w32 (24 * v3)))) + v6))
              else
                m_nows_180 d (ga_up σ fM_related 0 s1 s0) v3 v4 v5 v6 (w32 ((w32 ((w32 (576 * v4)) + (w32 (24 * v3)))) + v6)))))) :=
  ga_blk_eq am_G (am_run d) mt_m_nows 33 118 [(0, 12, 0), (3, 0, v3), (4, 0, v4), (5, 0, v5), (6, 0, v6)] [(0, s0), (0, s1), (126, 0)] σ
set_option maxRecDepth 100000 in
theorem e_m_nows_416 (d : Nat) (σ : ga_S) (s0 s1 : Int) : m_nows_416 d σ s0 s1 = ga_ck s1 288 (some (0, (ga_up σ fM_objectLong 0 s1 s0))) :=
  ga_blk_eq am_G (am_run d) mt_m_nows 2 416 [] [(0, s0), (0, s1), (118, 0)] σ
set_option maxRecDepth 100000 in
theorem e_m_nows_180 (d : Nat) (σ : ga_S) (v3 v4 v5 v6 s0 : Int) : m_nows_180 d σ v3 v4 v5 v6 s0 = m_nows_181 d σ v3 v4 v5 v6 0 s0 :=
  ga_blk_eq am_G (am_run d) mt_m_nows 1 180 [(0, 12, 0), (3, 0, v3), (4, 0, v4), (5, 0, v5), (6, 0, v6)] [(0, s0), (126, 0)] σ
set_option maxRecDepth 100000 in
theorem e_m_nows_176 (d : Nat) (σ : ga_S) (v3 v4 v5 v6 s0 : Int) : m_nows_176 d σ v3 v4 v5 v6 s0 = m_nows_181 d σ v3 v4 v5 v6 1 s0 :=
  ga_blk_eq am_G (am_run d) mt_m_nows 2 176 [(0, 12, 0), (3, 0, v3), (4, 0, v4), (5, 0, v5), (6, 0, v6)] [(0, s0), (126, 0)] σ
set_option maxRecDepth 100000 in
theorem e_m_nows_181 (d : Nat) (σ : ga_S) (v3 v4 v5 v6 s0 s1 : Int) : m_nows_181 d σ v3 v4 v5 v6 s0 s1 = ga_ck s1 3456 (ga_01 s0 (m_nows_46 d (ga_up σ fM_related 0 s1 s0) v3 v4 v5 (w32 (v6 + 1)))) :=
  ga_blk_eq am_G (am_run d) mt_m_nows 3 181 [(0, 12, 0), (3, 0, v3), (4, 0, v4), (5, 0, v5), (6, 0, v6)] [(0, s0), (0, s1), (126, 0)] σ
set_option maxRecDepth 100000 in
theorem e_m_moves (d : Nat) (σ : ga_S) (a1 a2 : Int) : c_m_moves (d + 1) σ a1 a2 = ga_ck a1 24 ((c_m_isBelow d σ (σ fM_kindOf 0 a1) 0).bind fun q1 =>
      if q1.1 = 0 then
        some (0, q1.2)
      else
        (c_m_isWithin d q1.2 a2 a1).bind fun q2 =>
          if q2.1 = 0 then
            ga_ck a2 24 ((c_m_mayHold d q2.2 1 (q2.2 fM_kindOf 0 a2)).bind fun q3 =>
                if q3.1 = 0 then
                  ga_ck a2 24 ((c_m_mayHold d q3.2 2 (q3.2 fM_kindOf 0 a2)).bind fun q4 =>
                      if q4.1 = 0 then
                        ga_ck a2 24 ((c_m_mayHold d q4.2 4 (q4.2 fM_kindOf 0 a2)).bind fun q5 =>
                            if q5.1 = 0 then
                              m_moves_84 d q5.2 a1 a2 3 a1
                            else
                              m_moves_84 d q5.2 a1 a2 4 a1)
                      else
                        m_moves_84 d q4.2 a1 a2 2 a1)
                else
                  m_moves_84 d q3.2 a1 a2 1 a1)
          else
            some (0, q2.2)) :=
  ga_blk_eq am_G (am_run d) mt_m_moves 42 0 [(0, 12, 0), (1, 0, a1), (2, 0, a2)] [] σ
set_option maxRecDepth 100000 in
theorem e_m_moves_84 (d : Nat) (σ : ga_S) (v1 v2 s0 s1 : Int) : m_moves_84 d σ v1 v2 s0 s1 = ga_ck s1 24 (ga_ck v1 24 (some (0, (ga_up (ga_up σ fM_way 0 s1 s0) fM_there 0 v1 v2)))) :=
  ga_blk_eq am_G (am_run d) mt_m_moves 7 84 [(0, 12, 0), (1, 0, v1), (2, 0, v2)] [(0, s0), (0, s1), (105, 0)] σ
set_option maxRecDepth 100000 in
theorem e_m_adds (d : Nat) (σ : ga_S) (a1 a2 a3 : Int) : c_m_adds (d + 1) σ a1 a2 a3 = ga_ck a1 2400 ((c_m_thingIs d σ (σ fM_qThing 0 a1) (-1) a2).bind fun q1 =>
      ga_ck a1 2400 ((c_m_numberOf d q1.2 q1.1 (q1.2 fM_qProperty 0 a1)).bind fun q2 =>
          ga_ck (w32 ((w32 (12 * q1.1)) + (q1.2 fM_qProperty 0 a1))) 288 ((p_min d (ga_up q2.2 fM_objectTold 0 (w32 ((w32 (12 * q1.1)) + (q1.2 fM_qProperty 0 a1))) 1) 999999 (w32 (q2.1 + a3))).bind fun q3 =>
              (p_max d q3.2 (-999999) q3.1).bind fun q4 =>
                ga_ck (w32 ((w32 (12 * q1.1)) + (q1.2 fM_qProperty 0 a1))) 288 (some (0, (ga_up q4.2 fM_objectSays 0 (w32 ((w32 (12 * q1.1)) + (q1.2 fM_qProperty 0 a1))) q4.1)))))) :=
  ga_blk_eq am_G (am_run d) mt_m_adds 43 0 [(0, 12, 0), (1, 0, a1), (2, 0, a2), (3, 0, a3)] [] σ
set_option maxRecDepth 100000 in
theorem e_m_tries (d : Nat) (σ : ga_S) (a1 a2 a3 : Int) : c_m_tries (d + 1) σ a1 a2 a3 = ga_ck a1 2400 (if a3 = 8 then
      some (0, σ)
    else
      ga_ck a1 2400 (if (σ fM_qNot 0 a1) = 0 then
          ga_ck a1 2400 ((c_m_thingIs d σ (σ fM_qThing 0 a1) (-1) a2).bind fun q1 =>
              ga_ck q1.1 24 (ga_ck (σ fM_qProperty 0 a1) 12 ((c_m_isBelow d q1.2 (q1.2 fM_kindOf 0 q1.1) (q1.2 fM_actionKind 0 (σ fM_qProperty 0 a1))).bind fun q2 =>
                    if q2.1 = 0 then
                      some (0, q2.2)
                    else
                      (c_m_action d q2.2 (σ fM_qProperty 0 a1) q1.1 (w32 (a3 + 1))).bind fun q3 =>
                        some (0, q3.2))))
        else
          (c_m_action d σ (σ fM_qProperty 0 a1) (-1) (w32 (a3 + 1))).bind fun q4 =>
            some (0, q4.2))) :=
  ga_blk_eq am_G (am_run d) mt_m_tries 41 0 [(0, 12, 0), (1, 0, a1), (2, 0, a2), (3, 0, a3)] [] σ
set_option maxRecDepth 100000 in
theorem e_m_runs (d : Nat) (σ : ga_S) (a1 a2 a3 : Int) : c_m_runs (d + 1) σ a1 a2 a3 = m_runs_3 d σ a1 a2 a3 0 :=
  ga_blk_eq am_G (am_run d) mt_m_runs 2 0 [(0, 12, 0), (1, 0, a1), (2, 0, a2), (3, 0, a3)] [] σ
set_option maxRecDepth 100000 in
theorem e_m_runs_3 (d : Nat) (σ : ga_S) (v1 v2 v3 v4 : Int) : m_runs_3 d σ v1 v2 v3 v4 = ga_ck v1 24 (if v4 < (σ fM_rulePhrases 0 v1) then
      if (σ fM_isEnded 0 0) = 0 then
        if (σ fM_done 0 0) = 300 then
          some (0, (ga_up σ fM_isEnded 0 0 1))
        else
          ga_ck v1 24 (ga_ck (w32 ((σ fM_rulePhrase 0 v1) + v4)) 2000 (ga_ck v1 24 (ga_ck (w32 ((σ fM_rulePhrase 0 v1) + v4)) 2000 (if (σ fM_qPhrase 0 (w32 ((σ fM_rulePhrase 0 v1) + v4))) = 0 then
                    ga_ck (σ fM_qTest 0 (w32 ((σ fM_rulePhrase 0 v1) + v4))) 2400 (ga_ck (σ fM_qTest 0 (w32 ((σ fM_rulePhrase 0 v1) + v4))) 2400 ((c_m_written d (ga_up (ga_up σ fM_done 0 0 (w32 ((σ fM_done 0 0) + 1))) fM_nounObject 0 0 v2) (σ fM_qWhat 0 (σ fM_qTest 0 (w32 ((σ fM_rulePhrase 0 v1) + v4)))) (σ fM_qLong 0 (σ fM_qTest 0 (w32 ((σ fM_rulePhrase 0 v1) + v4))))).bind fun q8 =>
                          (c_m_put d q8.2 10).bind fun q9 =>
                            m_runs_238 d q9.2 v1 v2 v3 v4))
                  else
                    if (σ fM_qPhrase 0 (w32 ((σ fM_rulePhrase 0 v1) + v4))) = 1 then
                      (c_m_nows d (ga_up σ fM_done 0 0 (w32 ((σ fM_done 0 0) + 1))) (σ fM_qTest 0 (w32 ((σ fM_rulePhrase 0 v1) + v4))) v2).bind fun q7 =>
                        m_runs_238 d q7.2 v1 v2 v3 v4
                    else
                      if (σ fM_qPhrase 0 (w32 ((σ fM_rulePhrase 0 v1) + v4))) = 2 then
                        ga_ck (σ fM_qTest 0 (w32 ((σ fM_rulePhrase 0 v1) + v4))) 2400 ((c_m_thingIs d (ga_up σ fM_done 0 0 (w32 ((σ fM_done 0 0) + 1))) (σ fM_qThing 0 (σ fM_qTest 0 (w32 ((σ fM_rulePhrase 0 v1) + v4)))) (-1) v2).bind fun q4 =>
                            ga_ck (σ fM_qTest 0 (w32 ((σ fM_rulePhrase 0 v1) + v4))) 2400 ((c_m_thingIs d q4.2 (q4.2 fM_qOther 0 (σ fM_qTest 0 (w32 ((σ fM_rulePhrase 0 v1) + v4)))) (-1) v2).bind fun q5 =>
                                (c_m_moves d q5.2 q4.1 q5.1).bind fun q6 =>
                                  m_runs_238 d q6.2 v1 v2 v3 v4))
                      else
                        if (σ fM_qPhrase 0 (w32 ((σ fM_rulePhrase 0 v1) + v4))) = 3 then
                          ga_ck (σ fM_qTest 0 (w32 ((σ fM_rulePhrase 0 v1) + v4))) 2400 ((c_m_adds d (ga_up σ fM_done 0 0 (w32 ((σ fM_done 0 0) + 1))) (σ fM_qTest 0 (w32 ((σ fM_rulePhrase 0 v1) + v4))) v2 (σ fM_qWhat 0 (σ fM_qTest 0 (w32 ((σ fM_rulePhrase 0 v1) + v4))))).bind fun q3 =>
                              m_runs_238 d q3.2 v1 v2 v3 v4)
                        else
                          if (σ fM_qPhrase 0 (w32 ((σ fM_rulePhrase 0 v1) + v4))) = 4 then
                            ga_ck (σ fM_qTest 0 (w32 ((σ fM_rulePhrase 0 v1) + v4))) 2400 ((c_m_adds d (ga_up σ fM_done 0 0 (w32 ((σ fM_done 0 0) + 1))) (σ fM_qTest 0 (w32 ((σ fM_rulePhrase 0 v1) + v4))) v2 (w32 (-(σ fM_qWhat 0 (σ fM_qTest 0 (w32 ((σ fM_rulePhrase 0 v1) + v4))))))).bind fun q2 =>
                                m_runs_238 d q2.2 v1 v2 v3 v4)
                          else
                            if (σ fM_qPhrase 0 (w32 ((σ fM_rulePhrase 0 v1) + v4))) = 5 then
                              (c_m_tries d (ga_up σ fM_done 0 0 (w32 ((σ fM_done 0 0) + 1))) (σ fM_qTest 0 (w32 ((σ fM_rulePhrase 0 v1) + v4))) v2 v3).bind fun q1 =>
                                m_runs_238 d q1.2 v1 v2 v3 v4
                            else
                              some (1, (ga_up σ fM_done 0 0 (w32 ((σ fM_done 0 0) + 1))))))))
      else
        some (0, σ)
    else
      some (0, σ)) :=
  ga_blk_eq am_G (am_run d) mt_m_runs 57 3 [(0, 12, 0), (1, 0, v1), (2, 0, v2), (3, 0, v3), (4, 0, v4)] [] σ
set_option maxRecDepth 100000 in
theorem e_m_runs_238 (d : Nat) (σ : ga_S) (v1 v2 v3 v4 : Int) : m_runs_238 d σ v1 v2 v3 v4 = m_runs_3 d σ v1 v2 v3 (w32 (v4 + 1)) :=
  ga_blk_eq am_G (am_run d) mt_m_runs 2 238 [(0, 12, 0), (1, 0, v1), (2, 0, v2), (3, 0, v3), (4, 0, v4)] [] σ
set_option maxRecDepth 100000 in
theorem e_m_isHeld (d : Nat) (σ : ga_S) (a1 : Int) : c_m_isHeld (d + 1) σ a1 = ga_ck a1 24 (if (σ fM_way 0 a1) = 4 then
      m_isHeld_20 d σ a1
    else
      ga_ck a1 24 (if (σ fM_way 0 a1) = 5 then
          m_isHeld_20 d σ a1
        else
          some (0, σ))) :=
  ga_blk_eq am_G (am_run d) mt_m_isHeld 14 0 [(0, 12, 0), (1, 0, a1)] [] σ
set_option maxRecDepth 100000 in
theorem e_m_isHeld_20 (d : Nat) (σ : ga_S) (v1 : Int) : m_isHeld_20 d σ v1 = ga_ck v1 24 (if (σ fM_there 0 v1) = 0 then
      some (1, σ)
    else
      some (0, σ)) :=
  ga_blk_eq am_G (am_run d) mt_m_isHeld 8 20 [(0, 12, 0), (1, 0, v1)] [] σ
set_option maxRecDepth 100000 in
theorem e_m_does2 (d : Nat) (σ : ga_S) (a1 a2 : Int) : c_m_does2 (d + 1) σ a1 a2 = if a1 = 1 then
    if a2 = 0 then
      some (0, σ)
    else
      (c_m_holds d σ a2 0 0).bind fun q6 =>
        if q6.1 = 0 then
          (c_m_isHeld d q6.2 a2).bind fun q7 =>
            if q7.1 = 0 then
              (c_m_isWithin d q7.2 0 a2).bind fun q8 =>
                if q8.1 = 0 then
                  ga_ck a2 24 (ga_ck a2 24 (some (1, (ga_up (ga_up q8.2 fM_way 0 a2 4) fM_there 0 a2 0))))
                else
                  some (0, q8.2)
            else
              some (0, q7.2)
        else
          some (0, q6.2)
  else
    if a1 = 2 then
      (c_m_isHeld d σ a2).bind fun q5 =>
        if q5.1 = 0 then
          some (0, q5.2)
        else
          ga_ck a2 24 (ga_ck a2 24 (some (1, (ga_up (ga_up q5.2 fM_way 0 a2 (q5.2 fM_way 0 0)) fM_there 0 a2 (q5.2 fM_there 0 0)))))
    else
      if a1 = 3 then
        (c_m_putProperty d σ a2 0).bind fun q3 =>
          (c_m_put d q3.2 10).bind fun q4 =>
            some (1, q4.2)
      else
        if a1 = 4 then
          if (σ fM_way 0 0) = 1 then
            ga_ck (σ fM_there 0 0) 24 ((c_m_isBelow d σ (σ fM_kindOf 0 (σ fM_there 0 0)) 1).bind fun q1 =>
                if q1.1 = 0 then
                  m_does2_174 d q1.2
                else
                  (c_m_leadsTo d q1.2 (q1.2 fM_there 0 0) a2).bind fun q2 =>
                    m_does2_175 d q2.2 q2.1)
          else
            m_does2_174 d σ
        else
          some (1, σ) :=
  ga_blk_eq am_G (am_run d) mt_m_does2 31 0 [(0, 12, 0), (1, 0, a1), (2, 0, a2)] [] σ
set_option maxRecDepth 100000 in
theorem e_m_does2_174 (d : Nat) (σ : ga_S) : m_does2_174 d σ = m_does2_175 d σ (-1) :=
  ga_blk_eq am_G (am_run d) mt_m_does2 1 174 [(0, 12, 0)] [] σ
set_option maxRecDepth 100000 in
theorem e_m_does2_175 (d : Nat) (σ : ga_S) (s0 : Int) : m_does2_175 d σ s0 = if s0 = (-1) then
    m_does2_196 d σ s0 (σ fM_there 0 0) 0
  else
    m_does2_196 d σ s0 s0 0 :=
  ga_blk_eq am_G (am_run d) mt_m_does2 12 175 [(0, 12, 0)] [(0, s0)] σ
set_option maxRecDepth 100000 in
theorem e_m_does2_196 (d : Nat) (σ : ga_S) (v3 s0 s1 : Int) : m_does2_196 d σ v3 s0 s1 = ga_ck s1 24 (if v3 = (-1) then
      some (0, (ga_up σ fM_there 0 s1 s0))
    else
      some (1, (ga_up σ fM_there 0 s1 s0))) :=
  ga_blk_eq am_G (am_run d) mt_m_does2 7 196 [(3, 0, v3)] [(0, s0), (0, s1), (106, 0)] σ
set_option maxRecDepth 100000 in
theorem e_m_action (d : Nat) (σ : ga_S) (a1 a2 a3 : Int) : c_m_action (d + 1) σ a1 a2 a3 = ga_ck a1 12 (if (σ fM_actionKind 0 a1) < 0 then
      m_action_14 d σ a1 a2 a3 (-1)
    else
      m_action_14 d σ a1 a2 a3 a2) :=
  ga_blk_eq am_G (am_run d) mt_m_action 7 0 [(0, 12, 0), (1, 0, a1), (2, 0, a2), (3, 0, a3)] [] σ
set_option maxRecDepth 100000 in
theorem e_m_action_14 (d : Nat) (σ : ga_S) (v1 v2 v3 s0 : Int) : m_action_14 d σ v1 v2 v3 s0 = m_action_19 d σ v1 v2 v3 s0 0 :=
  ga_blk_eq am_G (am_run d) mt_m_action 3 14 [(0, 12, 0), (1, 0, v1), (2, 0, v2), (3, 0, v3)] [(0, s0)] σ
set_option maxRecDepth 100000 in
theorem e_m_action_19 (d : Nat) (σ : ga_S) (v1 v2 v3 v4 v5 : Int) : m_action_19 d σ v1 v2 v3 v4 v5 = (c_m_ruleAt d σ 0 v5).bind fun q1 =>
    if q1.1 = (-1) then
      m_action_78 d q1.2 v1 v2 v3 v4
    else
      if (q1.2 fM_isEnded 0 0) = 0 then
        (c_m_ruleAt d q1.2 0 v5).bind fun q2 =>
          (c_m_applies d q2.2 q2.1 v1 v4).bind fun q3 =>
            if q3.1 = 0 then
              m_action_72 d q3.2 v1 v2 v3 v4 v5
            else
              (c_m_runs d q3.2 q2.1 v4 v3).bind fun q4 =>
                if q4.1 = 0 then
                  m_action_72 d q4.2 v1 v2 v3 v4 v5
                else
                  some (1, q4.2)
      else
        m_action_78 d q1.2 v1 v2 v3 v4 :=
  ga_blk_eq am_G (am_run d) mt_m_action 28 19 [(0, 12, 0), (1, 0, v1), (2, 0, v2), (3, 0, v3), (4, 0, v4), (5, 0, v5)] [] σ
set_option maxRecDepth 100000 in
theorem e_m_action_78 (d : Nat) (σ : ga_S) (v1 v2 v3 v4 : Int) : m_action_78 d σ v1 v2 v3 v4 = m_action_81 d σ v1 v2 v3 v4 0 :=
  ga_blk_eq am_G (am_run d) mt_m_action 2 78 [(0, 12, 0), (1, 0, v1), (2, 0, v2), (3, 0, v3), (4, 0, v4)] [] σ
set_option maxRecDepth 100000 in
theorem e_m_action_72 (d : Nat) (σ : ga_S) (v1 v2 v3 v4 v5 : Int) : m_action_72 d σ v1 v2 v3 v4 v5 = m_action_19 d σ v1 v2 v3 v4 (w32 (v5 + 1)) :=
  ga_blk_eq am_G (am_run d) mt_m_action 2 72 [(0, 12, 0), (1, 0, v1), (2, 0, v2), (3, 0, v3), (4, 0, v4), (5, 0, v5)] [] σ
set_option maxRecDepth 100000 in
theorem e_m_action_81 (d : Nat) (σ : ga_S) (v1 v2 v3 v4 v5 : Int) : m_action_81 d σ v1 v2 v3 v4 v5 = (c_m_ruleAt d σ 1 v5).bind fun q5 =>
    if q5.1 = (-1) then
      m_action_138 d q5.2 v1 v2 v3 v4
    else
      if (q5.2 fM_isEnded 0 0) = 0 then
        (c_m_ruleAt d q5.2 1 v5).bind fun q6 =>
          (c_m_applies d q6.2 q6.1 v1 v4).bind fun q7 =>
            if q7.1 = 0 then
              m_action_81 d q7.2 v1 v2 v3 v4 (w32 (v5 + 1))
            else
              (c_m_runs d q7.2 q6.1 v4 v3).bind fun q8 =>
                some (2, q8.2)
      else
        m_action_138 d q5.2 v1 v2 v3 v4 :=
  ga_blk_eq am_G (am_run d) mt_m_action 28 81 [(0, 12, 0), (1, 0, v1), (2, 0, v2), (3, 0, v3), (4, 0, v4), (5, 0, v5)] [] σ
set_option maxRecDepth 100000 in
theorem e_m_action_138 (d : Nat) (σ : ga_S) (v1 v2 v3 v4 : Int) : m_action_138 d σ v1 v2 v3 v4 = if (σ fM_isEnded 0 0) = 0 then
    (c_m_does2 d σ v1 v2).bind fun q9 =>
      if q9.1 = 0 then
        some (3, q9.2)
      else
        m_action_161 d q9.2 v1 v3 v4 0
  else
    some (5, σ) :=
  ga_blk_eq am_G (am_run d) mt_m_action 10 138 [(0, 12, 0), (1, 0, v1), (2, 0, v2), (3, 0, v3), (4, 0, v4)] [] σ
set_option maxRecDepth 100000 in
theorem e_m_action_161 (d : Nat) (σ : ga_S) (v1 v3 v4 v5 : Int) : m_action_161 d σ v1 v3 v4 v5 = (c_m_ruleAt d σ 2 v5).bind fun q10 =>
    if q10.1 = (-1) then
      some (0, q10.2)
    else
      if (q10.2 fM_isEnded 0 0) = 0 then
        (c_m_ruleAt d q10.2 2 v5).bind fun q11 =>
          (c_m_applies d q11.2 q11.1 v1 v4).bind fun q12 =>
            if q12.1 = 0 then
              m_action_214 d q12.2 v1 v3 v4 v5
            else
              (c_m_runs d q12.2 q11.1 v4 v3).bind fun q13 =>
                if q13.1 = 0 then
                  m_action_214 d q13.2 v1 v3 v4 v5
                else
                  some (4, q13.2)
      else
        some (0, q10.2) :=
  ga_blk_eq am_G (am_run d) mt_m_action 28 161 [(0, 12, 0), (1, 0, v1), (3, 0, v3), (4, 0, v4), (5, 0, v5)] [] σ
set_option maxRecDepth 100000 in
theorem e_m_action_214 (d : Nat) (σ : ga_S) (v1 v3 v4 v5 : Int) : m_action_214 d σ v1 v3 v4 v5 = m_action_161 d σ v1 v3 v4 (w32 (v5 + 1)) :=
  ga_blk_eq am_G (am_run d) mt_m_action 2 214 [(0, 12, 0), (1, 0, v1), (3, 0, v3), (4, 0, v4), (5, 0, v5)] [] σ
set_option maxRecDepth 100000 in
theorem e_m_act (d : Nat) (σ : ga_S) (a1 a2 : Int) : c_m_act (d + 1) σ a1 a2 = (c_m_in d σ a1 0 (w32 ((σ fM_actions 0 0) - 1))).bind fun q1 =>
    if q1.1 = 0 then
      some ((-1), q1.2)
    else
      ga_ck a1 12 (if (q1.2 fM_actionKind 0 a1) = (-1) then
          if a2 = (-1) then
            m_act_89 d q1.2 a1 a2 1
          else
            m_act_89 d q1.2 a1 a2 0
        else
          if (q1.2 fM_actionKind 0 a1) = (-2) then
            (c_m_in d q1.2 a2 0 5).bind fun q4 =>
              m_act_89 d q4.2 a1 a2 q4.1
          else
            (c_m_in d q1.2 a2 0 (w32 ((q1.2 fM_objects 0 0) - 1))).bind fun q2 =>
              if q2.1 = 0 then
                m_act_88 d q2.2 a1 a2
              else
                ga_ck a2 24 ((c_m_isBelow d q2.2 (q2.2 fM_kindOf 0 a2) (q1.2 fM_actionKind 0 a1)).bind fun q3 =>
                    if q3.1 = 0 then
                      m_act_88 d q3.2 a1 a2
                    else
                      m_act_89 d q3.2 a1 a2 1)) :=
  ga_blk_eq am_G (am_run d) mt_m_act 37 0 [(0, 12, 0), (1, 0, a1), (2, 0, a2)] [] σ
set_option maxRecDepth 100000 in
theorem e_m_act_88 (d : Nat) (σ : ga_S) (v1 v2 : Int) : m_act_88 d σ v1 v2 = m_act_89 d σ v1 v2 0 :=
  ga_blk_eq am_G (am_run d) mt_m_act 1 88 [(0, 12, 0), (1, 0, v1), (2, 0, v2)] [] σ
set_option maxRecDepth 100000 in
theorem e_m_act_89 (d : Nat) (σ : ga_S) (v1 v2 s0 : Int) : m_act_89 d σ v1 v2 s0 = if s0 = 0 then
    some ((-1), σ)
  else
    (c_m_action d (ga_up (ga_up σ fM_done 0 0 0) fM_isEnded 0 0 0) v1 v2 1).bind fun q5 =>
      m_act_120 d q5.2 v1 q5.1 0 :=
  ga_blk_eq am_G (am_run d) mt_m_act 17 89 [(0, 12, 0), (1, 0, v1), (2, 0, v2)] [(0, s0)] σ
set_option maxRecDepth 100000 in
theorem e_m_act_120 (d : Nat) (σ : ga_S) (v1 v5 v6 : Int) : m_act_120 d σ v1 v5 v6 = (c_m_ruleAt d σ 3 v6).bind fun q6 =>
    if q6.1 = (-1) then
      m_act_173 d q6.2 v5
    else
      if (q6.2 fM_isEnded 0 0) = 0 then
        (c_m_ruleAt d q6.2 3 v6).bind fun q7 =>
          (c_m_applies d q7.2 q7.1 v1 (-1)).bind fun q8 =>
            if q8.1 = 0 then
              m_act_167 d q8.2 v1 v5 v6
            else
              (c_m_runs d q8.2 q7.1 (-1) 0).bind fun q9 =>
                m_act_167 d q9.2 v1 v5 v6
      else
        m_act_173 d q6.2 v5 :=
  ga_blk_eq am_G (am_run d) mt_m_act 26 120 [(0, 12, 0), (1, 0, v1), (5, 0, v5), (6, 0, v6)] [] σ
set_option maxRecDepth 100000 in
theorem e_m_act_173 (d : Nat) (σ : ga_S) (v5 : Int) : m_act_173 d σ v5 = if (σ fM_isEnded 0 0) = 0 then
    some (v5, σ)
  else
    some (5, σ) :=
  ga_blk_eq am_G (am_run d) mt_m_act 6 173 [(0, 12, 0), (5, 0, v5)] [] σ
set_option maxRecDepth 100000 in
theorem e_m_act_167 (d : Nat) (σ : ga_S) (v1 v5 v6 : Int) : m_act_167 d σ v1 v5 v6 = m_act_120 d σ v1 v5 (w32 (v6 + 1)) :=
  ga_blk_eq am_G (am_run d) mt_m_act 2 167 [(0, 12, 0), (1, 0, v1), (5, 0, v5), (6, 0, v6)] [] σ
set_option maxRecDepth 100000 in
theorem e_m_isSaid (d : Nat) (σ : ga_S) : c_m_isSaid (d + 1) σ = m_isSaid_7 d (ga_up σ fM_saids 0 0 0) 0 :=
  ga_blk_eq am_G (am_run d) mt_m_isSaid 5 0 [(0, 12, 0)] [] σ
set_option maxRecDepth 100000 in
theorem e_m_isSaid_7 (d : Nat) (σ : ga_S) (v1 : Int) : m_isSaid_7 d σ v1 = if v1 < (σ fM_size 0 0) then
    ga_ck v1 5000 (if (σ fM_tape 0 v1) = 32 then
        m_isSaid_7 d σ (w32 (v1 + 1))
      else
        m_isSaid_34 d σ v1 v1)
  else
    some (1, σ) :=
  ga_blk_eq am_G (am_run d) mt_m_isSaid 12 7 [(0, 12, 0), (1, 0, v1)] [] σ
set_option maxRecDepth 100000 in
theorem e_m_isSaid_34 (d : Nat) (σ : ga_S) (v1 v2 : Int) : m_isSaid_34 d σ v1 v2 = if v2 < (σ fM_size 0 0) then
    ga_ck v2 5000 ((c_m_isLetter d σ (σ fM_tape 0 v2)).bind fun q1 =>
        if q1.1 = 0 then
          m_isSaid_60 d q1.2 v1 v2
        else
          m_isSaid_34 d q1.2 v1 (w32 (v2 + 1)))
  else
    m_isSaid_60 d σ v1 v2 :=
  ga_blk_eq am_G (am_run d) mt_m_isSaid 12 34 [(0, 12, 0), (1, 0, v1), (2, 0, v2)] [] σ
set_option maxRecDepth 100000 in
theorem e_m_isSaid_60 (d : Nat) (σ : ga_S) (v1 v2 : Int) : m_isSaid_60 d σ v1 v2 = if v2 = v1 then
    some (0, σ)
  else
    if 12 < (w32 (v2 - v1)) then
      some (0, σ)
    else
      if (σ fM_saids 0 0) = 50 then
        some (0, σ)
      else
        (c_m_wordOf_tape d σ v1 (w32 (v2 - v1))).bind fun q2 =>
          ga_ck (σ fM_saids 0 0) 50 (m_isSaid_7 d (ga_up (ga_up q2.2 fM_said 0 (σ fM_saids 0 0) q2.1) fM_saids 0 0 (w32 ((q2.2 fM_saids 0 0) + 1))) v2) :=
  ga_blk_eq am_G (am_run d) mt_m_isSaid 33 60 [(0, 12, 0), (1, 0, v1), (2, 0, v2)] [] σ
set_option maxRecDepth 100000 in
theorem e_m_fitsCommand (d : Nat) (σ : ga_S) (a1 : Int) : c_m_fitsCommand (d + 1) σ a1 = ga_ck a1 20 (m_fitsCommand_25 d (ga_up σ fM_saidNoun 0 0 (-1)) a1 (σ fM_commandSize 0 a1) (w32 ((σ fM_saids 0 0) - (σ fM_commandSize 0 a1))) 0 0) :=
  ga_blk_eq am_G (am_run d) mt_m_fitsCommand 17 0 [(0, 12, 0), (1, 0, a1)] [] σ
set_option maxRecDepth 100000 in
theorem e_m_fitsCommand_25 (d : Nat) (σ : ga_S) (v1 v2 v3 v4 v5 : Int) : m_fitsCommand_25 d σ v1 v2 v3 v4 v5 = if v5 < v2 then
    ga_ck (w32 ((w32 (8 * v1)) + v5)) 160 (if (ga_lcmp (σ fM_commandWord 0 (w32 ((w32 (8 * v1)) + v5))) 0) = 0 then
        if (w32 (1 + v3)) < 1 then
          some (0, σ)
        else
          if 3 < (w32 (1 + v3)) then
            some (0, σ)
          else
            if (σ fM_saids 0 0) < (w32 (v4 + (w32 (1 + v3)))) then
              some (0, σ)
            else
              ga_ck v4 50 (if 1 < (w32 (1 + v3)) then
                  ga_ck (w32 (v4 + 1)) 50 (m_fitsCommand_146 d σ v1 v2 v3 v4 v5 (w32 (1 + v3)) (σ fM_said 0 (w32 (v4 + 1))) (σ fM_said 0 v4))
                else
                  m_fitsCommand_146 d σ v1 v2 v3 v4 v5 (w32 (1 + v3)) 0 (σ fM_said 0 v4))
      else
        if v4 < (σ fM_saids 0 0) then
          ga_ck v4 50 (ga_ck (w32 ((w32 (8 * v1)) + v5)) 160 (if (ga_lcmp (σ fM_said 0 v4) (σ fM_commandWord 0 (w32 ((w32 (8 * v1)) + v5)))) = 0 then
                m_fitsCommand_267 d σ v1 v2 v3 (w32 (v4 + 1)) v5
              else
                some (0, σ)))
        else
          some (0, σ))
  else
    if v4 = (σ fM_saids 0 0) then
      some (1, σ)
    else
      some (0, σ) :=
  ga_blk_eq am_G (am_run d) mt_m_fitsCommand 45 25 [(0, 12, 0), (1, 0, v1), (2, 0, v2), (3, 0, v3), (4, 0, v4), (5, 0, v5)] [] σ
set_option maxRecDepth 100000 in
theorem e_m_fitsCommand_146 (d : Nat) (σ : ga_S) (v1 v2 v3 v4 v5 v6 s0 s1 : Int) : m_fitsCommand_146 d σ v1 v2 v3 v4 v5 v6 s0 s1 = if 2 < v6 then
    ga_ck (w32 (v4 + 2)) 50 (m_fitsCommand_165 d σ v1 v2 v3 v4 v5 v6 (σ fM_said 0 (w32 (v4 + 2))) s0 s1)
  else
    m_fitsCommand_165 d σ v1 v2 v3 v4 v5 v6 0 s0 s1 :=
  ga_blk_eq am_G (am_run d) mt_m_fitsCommand 10 146 [(0, 12, 0), (1, 0, v1), (2, 0, v2), (3, 0, v3), (4, 0, v4), (5, 0, v5), (6, 0, v6)] [(1, s0), (1, s1), (12, 0)] σ
set_option maxRecDepth 100000 in
theorem e_m_fitsCommand_267 (d : Nat) (σ : ga_S) (v1 v2 v3 v4 v5 : Int) : m_fitsCommand_267 d σ v1 v2 v3 v4 v5 = m_fitsCommand_25 d σ v1 v2 v3 v4 (w32 (v5 + 1)) :=
  ga_blk_eq am_G (am_run d) mt_m_fitsCommand 2 267 [(0, 12, 0), (1, 0, v1), (2, 0, v2), (3, 0, v3), (4, 0, v4), (5, 0, v5)] [] σ
set_option maxRecDepth 100000 in
theorem e_m_fitsCommand_165 (d : Nat) (σ : ga_S) (v1 v2 v3 v4 v5 v6 s0 s1 s2 : Int) : m_fitsCommand_165 d σ v1 v2 v3 v4 v5 v6 s0 s1 s2 = (c_m_find d σ s2 s1 s0 v6).bind fun q1 =>
    ga_ck v1 20 (if (q1.2 fM_commandKind 0 v1) = (-2) then
        m_fitsCommand_188 d q1.2 v1 v2 v3 v4 v5 v6 q1.1 1
      else
        m_fitsCommand_188 d q1.2 v1 v2 v3 v4 v5 v6 q1.1 0) :=
  ga_blk_eq am_G (am_run d) mt_m_fitsCommand 11 165 [(0, 12, 0), (1, 0, v1), (2, 0, v2), (3, 0, v3), (4, 0, v4), (5, 0, v5), (6, 0, v6)] [(1, s0), (1, s1), (1, s2), (12, 0)] σ
set_option maxRecDepth 100000 in
theorem e_m_fitsCommand_188 (d : Nat) (σ : ga_S) (v1 v2 v3 v4 v5 v6 v7 s0 : Int) : m_fitsCommand_188 d σ v1 v2 v3 v4 v5 v6 v7 s0 = if v7 = (-1) then
    some (0, σ)
  else
    ga_ck v7 300 (if s0 = 0 then
        m_fitsCommand_214 d σ v1 v2 v3 v4 v5 v6 v7 s0 4 (σ fM_lexSort 0 v7)
      else
        m_fitsCommand_214 d σ v1 v2 v3 v4 v5 v6 v7 s0 12 (σ fM_lexSort 0 v7)) :=
  ga_blk_eq am_G (am_run d) mt_m_fitsCommand 12 188 [(0, 12, 0), (1, 0, v1), (2, 0, v2), (3, 0, v3), (4, 0, v4), (5, 0, v5), (6, 0, v6), (7, 0, v7)] [(0, s0)] σ
set_option maxRecDepth 100000 in
theorem e_m_fitsCommand_214 (d : Nat) (σ : ga_S) (v1 v2 v3 v4 v5 v6 v7 v8 s0 s1 : Int) : m_fitsCommand_214 d σ v1 v2 v3 v4 v5 v6 v7 v8 s0 s1 = if s1 = s0 then
    if v8 = 0 then
      ga_ck v7 300 (ga_ck (σ fM_lexIndex 0 v7) 24 (ga_ck v1 20 ((c_m_isBelow d σ (σ fM_kindOf 0 (σ fM_lexIndex 0 v7)) (σ fM_commandKind 0 v1)).bind fun q2 =>
              if q2.1 = 0 then
                some (0, q2.2)
              else
                m_fitsCommand_249 d q2.2 v1 v2 v3 v4 v5 v6 v7)))
    else
      m_fitsCommand_249 d σ v1 v2 v3 v4 v5 v6 v7
  else
    some (0, σ) :=
  ga_blk_eq am_G (am_run d) mt_m_fitsCommand 19 214 [(0, 12, 0), (1, 0, v1), (2, 0, v2), (3, 0, v3), (4, 0, v4), (5, 0, v5), (6, 0, v6), (7, 0, v7), (8, 0, v8)] [(0, s0), (0, s1)] σ
set_option maxRecDepth 100000 in
theorem e_m_fitsCommand_249 (d : Nat) (σ : ga_S) (v1 v2 v3 v4 v5 v6 v7 : Int) : m_fitsCommand_249 d σ v1 v2 v3 v4 v5 v6 v7 = ga_ck v7 300 (m_fitsCommand_267 d (ga_up σ fM_saidNoun 0 0 (σ fM_lexIndex 0 v7)) v1 v2 v3 (w32 (v4 + v6)) v5) :=
  ga_blk_eq am_G (am_run d) mt_m_fitsCommand 10 249 [(0, 12, 0), (1, 0, v1), (2, 0, v2), (3, 0, v3), (4, 0, v4), (5, 0, v5), (6, 0, v6), (7, 0, v7)] [] σ
set_option maxRecDepth 100000 in
theorem e_m_command (d : Nat) (σ : ga_S) : c_m_command (d + 1) σ = (c_m_isSaid d σ).bind fun q1 =>
    m_command_12 d (ga_up q1.2 fM_size 0 0 0) q1.1 0 :=
  ga_blk_eq am_G (am_run d) mt_m_command 8 0 [(0, 12, 0)] [] σ
set_option maxRecDepth 100000 in
theorem e_m_command_12 (d : Nat) (σ : ga_S) (v1 v2 : Int) : m_command_12 d σ v1 v2 = if v2 < (σ fM_commands 0 0) then
    if v1 = 0 then
      some ((-2), σ)
    else
      (c_m_fitsCommand d σ v2).bind fun q2 =>
        if q2.1 = 0 then
          m_command_12 d q2.2 v1 (w32 (v2 + 1))
        else
          ga_ck v2 20 ((c_m_act d q2.2 (q2.2 fM_commandAction 0 v2) (q2.2 fM_saidNoun 0 0)).bind fun q3 =>
              some (q3.1, q3.2))
  else
    some ((-2), σ) :=
  ga_blk_eq am_G (am_run d) mt_m_command 19 12 [(0, 12, 0), (1, 0, v1), (2, 0, v2)] [] σ
set_option maxRecDepth 100000 in
theorem e_m_told (d : Nat) (σ : ga_S) (a1 : Int) : c_m_told (d + 1) σ a1 = if a1 = 0 then
    some ((σ fM_kinds 0 0), σ)
  else
    if a1 = 1 then
      some ((σ fM_types 0 0), σ)
    else
      if a1 = 2 then
        some ((σ fM_objects 0 0), σ)
      else
        if a1 = 3 then
          some ((σ fM_adjectives 0 0), σ)
        else
          if a1 = 4 then
            some ((σ fM_values 0 0), σ)
          else
            if a1 = 5 then
              some ((σ fM_properties 0 0), σ)
            else
              if a1 = 6 then
                some ((σ fM_relations 0 0), σ)
              else
                if a1 = 7 then
                  some ((σ fM_verbs 0 0), σ)
                else
                  if a1 = 8 then
                    some ((σ fM_actions 0 0), σ)
                  else
                    if a1 = 9 then
                      some ((σ fM_rules 0 0), σ)
                    else
                      if a1 = 10 then
                        some ((σ fM_commands 0 0), σ)
                      else
                        some ((-1), σ) :=
  ga_blk_eq am_G (am_run d) mt_m_told 5 0 [(0, 12, 0), (1, 0, a1)] [] σ
set_option maxRecDepth 100000 in
theorem e_m_name3 (d : Nat) (σ : ga_S) (a1 a2 a3 : Int) : c_m_name3 (d + 1) σ a1 a2 a3 = if a1 = 11 then
    m_name3_11 d σ a1 a2 a3 1
  else
    m_name3_11 d σ a1 a2 a3 0 :=
  ga_blk_eq am_G (am_run d) mt_m_name3 5 0 [(0, 12, 0), (1, 0, a1), (2, 0, a2), (3, 0, a3)] [] σ
set_option maxRecDepth 100000 in
theorem e_m_name3_11 (d : Nat) (σ : ga_S) (v1 v2 v3 s0 : Int) : m_name3_11 d σ v1 v2 v3 s0 = if s0 = 0 then
    (c_m_in d σ v1 0 8).bind fun q1 =>
      if q1.1 = 0 then
        some ((-1), q1.2)
      else
        m_name3_28 d q1.2 v1 v2 v3 s0
  else
    m_name3_28 d σ v1 v2 v3 s0 :=
  ga_blk_eq am_G (am_run d) mt_m_name3 10 11 [(0, 12, 0), (1, 0, v1), (2, 0, v2), (3, 0, v3)] [(0, s0)] σ
set_option maxRecDepth 100000 in
theorem e_m_name3_28 (d : Nat) (σ : ga_S) (v1 v2 v3 v4 : Int) : m_name3_28 d σ v1 v2 v3 v4 = if v4 = 0 then
    m_name3_41 d σ v1 v2 v3 v1 0 v2
  else
    m_name3_41 d σ v1 v2 v3 0 0 v2 :=
  ga_blk_eq am_G (am_run d) mt_m_name3 7 28 [(0, 12, 0), (1, 0, v1), (2, 0, v2), (3, 0, v3), (4, 0, v4)] [] σ
set_option maxRecDepth 100000 in
theorem e_m_name3_41 (d : Nat) (σ : ga_S) (v1 v2 v3 s0 s2 s3 : Int) : m_name3_41 d σ v1 v2 v3 s0 s2 s3 = (c_m_told d σ s0).bind fun q2 =>
    (c_m_in d q2.2 s3 s2 (w32 (q2.1 - 1))).bind fun q3 =>
      if q3.1 = 0 then
        some ((-1), q3.2)
      else
        if v3 < 0 then
          some ((-1), q3.2)
        else
          if v1 = 0 then
            m_name3_147 d q3.2 v2 v3 0
          else
            if v1 = 1 then
              m_name3_147 d q3.2 v2 v3 2
            else
              if v1 = 2 then
                m_name3_147 d q3.2 v2 v3 4
              else
                if v1 = 3 then
                  m_name3_147 d q3.2 v2 v3 5
                else
                  if v1 = 4 then
                    m_name3_147 d q3.2 v2 v3 6
                  else
                    if v1 = 5 then
                      m_name3_147 d q3.2 v2 v3 7
                    else
                      if v1 = 6 then
                        m_name3_147 d q3.2 v2 v3 8
                      else
                        if v1 = 7 then
                          m_name3_147 d q3.2 v2 v3 9
                        else
                          if v1 = 8 then
                            m_name3_147 d q3.2 v2 v3 11
                          else
                            m_name3_147 d q3.2 v2 v3 1 :=
  ga_blk_eq am_G (am_run d) mt_m_name3 35 41 [(0, 12, 0), (1, 0, v1), (2, 0, v2), (3, 0, v3)] [(0, s0), (12, 0), (0, s2), (0, s3)] σ
set_option maxRecDepth 100000 in
theorem e_m_name3_147 (d : Nat) (σ : ga_S) (v2 v3 s0 : Int) : m_name3_147 d σ v2 v3 s0 = (c_m_lexOf d σ s0 v2).bind fun q4 =>
    if q4.1 = (-1) then
      some ((-1), q4.2)
    else
      (c_m_byteOf d q4.2 q4.1 v3).bind fun q5 =>
        some (q5.1, q5.2) :=
  ga_blk_eq am_G (am_run d) mt_m_name3 14 147 [(0, 12, 0), (2, 0, v2), (3, 0, v3)] [(0, s0)] σ
set_option maxRecDepth 100000 in
theorem e_m_kind (d : Nat) (σ : ga_S) (a1 a2 : Int) : c_m_kind (d + 1) σ a1 a2 = (c_m_in d σ a1 0 (w32 ((σ fM_kinds 0 0) - 1))).bind fun q1 =>
    if q1.1 = 0 then
      some ((-1), q1.2)
    else
      (c_m_in d q1.2 a2 0 2).bind fun q2 =>
        if q2.1 = 0 then
          some ((-1), q2.2)
        else
          m_kind_30 d q2.2 a1 a2 0 0 :=
  ga_blk_eq am_G (am_run d) mt_m_kind 17 0 [(0, 12, 0), (1, 0, a1), (2, 0, a2)] [] σ
set_option maxRecDepth 100000 in
theorem e_m_kind_30 (d : Nat) (σ : ga_S) (v1 v2 v3 v4 : Int) : m_kind_30 d σ v1 v2 v3 v4 = if v4 < (σ fM_properties 0 0) then
    if v2 = 1 then
      (c_m_has d σ v1 v4).bind fun q3 =>
        if q3.1 = 0 then
          m_kind_60 d q3.2 v1 v2 v4 0 v3
        else
          m_kind_60 d q3.2 v1 v2 v4 1 v3
    else
      m_kind_68 d σ v1 v2 v3
  else
    m_kind_68 d σ v1 v2 v3 :=
  ga_blk_eq am_G (am_run d) mt_m_kind 15 30 [(0, 12, 0), (1, 0, v1), (2, 0, v2), (3, 0, v3), (4, 0, v4)] [] σ
set_option maxRecDepth 100000 in
theorem e_m_kind_68 (d : Nat) (σ : ga_S) (v1 v2 v3 : Int) : m_kind_68 d σ v1 v2 v3 = m_kind_71 d σ v1 v2 v3 0 :=
  ga_blk_eq am_G (am_run d) mt_m_kind 2 68 [(0, 12, 0), (1, 0, v1), (2, 0, v2), (3, 0, v3)] [] σ
set_option maxRecDepth 100000 in
theorem e_m_kind_60 (d : Nat) (σ : ga_S) (v1 v2 v4 s0 s1 : Int) : m_kind_60 d σ v1 v2 v4 s0 s1 = m_kind_30 d σ v1 v2 (w32 (s1 + s0)) (w32 (v4 + 1)) :=
  ga_blk_eq am_G (am_run d) mt_m_kind 4 60 [(0, 12, 0), (1, 0, v1), (2, 0, v2), (4, 0, v4)] [(0, s0), (0, s1)] σ
set_option maxRecDepth 100000 in
theorem e_m_kind_71 (d : Nat) (σ : ga_S) (v1 v2 v3 v4 : Int) : m_kind_71 d σ v1 v2 v3 v4 = if v4 < (σ fM_adjectives 0 0) then
    if v2 = 2 then
      ga_ck v4 24 ((c_m_isBelow d σ v1 (σ fM_adjectiveKind 0 v4)).bind fun q4 =>
          if q4.1 = 0 then
            m_kind_106 d q4.2 v1 v2 v4 0 v3
          else
            m_kind_106 d q4.2 v1 v2 v4 1 v3)
    else
      m_kind_114 d σ v1 v2 v3
  else
    m_kind_114 d σ v1 v2 v3 :=
  ga_blk_eq am_G (am_run d) mt_m_kind 18 71 [(0, 12, 0), (1, 0, v1), (2, 0, v2), (3, 0, v3), (4, 0, v4)] [] σ
set_option maxRecDepth 100000 in
theorem e_m_kind_114 (d : Nat) (σ : ga_S) (v1 v2 v3 : Int) : m_kind_114 d σ v1 v2 v3 = if v2 = 0 then
    ga_ck v1 16 (some ((σ fM_above 0 v1), σ))
  else
    some (v3, σ) :=
  ga_blk_eq am_G (am_run d) mt_m_kind 8 114 [(0, 12, 0), (1, 0, v1), (2, 0, v2), (3, 0, v3)] [] σ
set_option maxRecDepth 100000 in
theorem e_m_kind_106 (d : Nat) (σ : ga_S) (v1 v2 v4 s0 s1 : Int) : m_kind_106 d σ v1 v2 v4 s0 s1 = m_kind_71 d σ v1 v2 (w32 (s1 + s0)) (w32 (v4 + 1)) :=
  ga_blk_eq am_G (am_run d) mt_m_kind 4 106 [(0, 12, 0), (1, 0, v1), (2, 0, v2), (4, 0, v4)] [(0, s0), (0, s1)] σ
set_option maxRecDepth 100000 in
theorem e_m_object (d : Nat) (σ : ga_S) (a1 a2 : Int) : c_m_object (d + 1) σ a1 a2 = (c_m_in d σ a1 0 (w32 ((σ fM_objects 0 0) - 1))).bind fun q1 =>
    if q1.1 = 0 then
      some ((-1), q1.2)
    else
      if a2 = 0 then
        ga_ck a1 24 (some ((q1.2 fM_kindOf 0 a1), q1.2))
      else
        if a2 = 1 then
          ga_ck a1 24 (some ((q1.2 fM_way 0 a1), q1.2))
        else
          if a2 = 2 then
            ga_ck a1 24 (if (q1.2 fM_way 0 a1) = 0 then
                some ((-1), q1.2)
              else
                ga_ck a1 24 (some ((q1.2 fM_there 0 a1), q1.2)))
          else
            some ((-1), q1.2) :=
  ga_blk_eq am_G (am_run d) mt_m_object 27 0 [(0, 12, 0), (1, 0, a1), (2, 0, a2)] [] σ
set_option maxRecDepth 100000 in
theorem e_m_is (d : Nat) (σ : ga_S) (a1 a2 : Int) : c_m_is (d + 1) σ a1 a2 = (c_m_in d σ a1 0 (w32 ((σ fM_objects 0 0) - 1))).bind fun q1 =>
    if q1.1 = 0 then
      some ((-1), q1.2)
    else
      (c_m_in d q1.2 a2 0 (w32 ((q1.2 fM_adjectives 0 0) - 1))).bind fun q2 =>
        if q2.1 = 0 then
          some ((-1), q2.2)
        else
          ga_ck a1 24 (ga_ck a2 24 ((c_m_isBelow d q2.2 (q2.2 fM_kindOf 0 a1) (q2.2 fM_adjectiveKind 0 a2)).bind fun q3 =>
                if q3.1 = 0 then
                  some ((-1), q3.2)
                else
                  (c_m_holds d q3.2 a1 a2 0).bind fun q4 =>
                    if q4.1 = 0 then
                      some (0, q4.2)
                    else
                      some (1, q4.2))) :=
  ga_blk_eq am_G (am_run d) mt_m_is 36 0 [(0, 12, 0), (1, 0, a1), (2, 0, a2)] [] σ
set_option maxRecDepth 100000 in
theorem e_m_isProperty (d : Nat) (σ : ga_S) (a1 a2 : Int) : c_m_isProperty (d + 1) σ a1 a2 = (c_m_in d σ a1 0 (w32 ((σ fM_objects 0 0) - 1))).bind fun q1 =>
    if q1.1 = 0 then
      some (0, q1.2)
    else
      (c_m_in d q1.2 a2 0 (w32 ((q1.2 fM_properties 0 0) - 1))).bind fun q2 =>
        if q2.1 = 0 then
          some (0, q2.2)
        else
          ga_ck a1 24 ((c_m_has d q2.2 (q2.2 fM_kindOf 0 a1) a2).bind fun q3 =>
              if q3.1 = 0 then
                some (0, q3.2)
              else
                some (1, q3.2)) :=
  ga_blk_eq am_G (am_run d) mt_m_isProperty 27 0 [(0, 12, 0), (1, 0, a1), (2, 0, a2)] [] σ
set_option maxRecDepth 100000 in
theorem e_m_property2 (d : Nat) (σ : ga_S) (a1 a2 : Int) : c_m_property2 (d + 1) σ a1 a2 = (c_m_isProperty d σ a1 a2).bind fun q1 =>
    if q1.1 = 0 then
      some ((-1), q1.2)
    else
      (c_m_numberOf d q1.2 a1 a2).bind fun q2 =>
        ga_ck a2 12 (if (q2.2 fM_propertyType 0 a2) = 1 then
            some ((q2.2 fM_numberLong 0 0), q2.2)
          else
            some (q2.1, q2.2)) :=
  ga_blk_eq am_G (am_run d) mt_m_property2 20 0 [(0, 12, 0), (1, 0, a1), (2, 0, a2)] [] σ
set_option maxRecDepth 100000 in
theorem e_m_letter (d : Nat) (σ : ga_S) (a1 a2 a3 : Int) : c_m_letter (d + 1) σ a1 a2 a3 = (c_m_isProperty d σ a1 a2).bind fun q1 =>
    if q1.1 = 0 then
      some ((-1), q1.2)
    else
      ga_ck a2 12 (if (q1.2 fM_propertyType 0 a2) = 1 then
          (c_m_numberOf d q1.2 a1 a2).bind fun q2 =>
            (c_m_in d q2.2 a3 0 (w32 ((q2.2 fM_numberLong 0 0) - 1))).bind fun q3 =>
              if q3.1 = 0 then
                some ((-1), q3.2)
              else
                ga_ck (w32 (q2.1 + a3)) 5000 (some ((ga_iand (q3.2 fM_story 0 (w32 (q2.1 + a3))) 255), q3.2))
        else
          some ((-1), q1.2)) :=
  ga_blk_eq am_G (am_run d) mt_m_letter 34 0 [(0, 12, 0), (1, 0, a1), (2, 0, a2), (3, 0, a3)] [] σ
set_option maxRecDepth 100000 in
theorem e_m_leads (d : Nat) (σ : ga_S) (a1 a2 : Int) : c_m_leads (d + 1) σ a1 a2 = (c_m_in d σ a1 0 (w32 ((σ fM_objects 0 0) - 1))).bind fun q1 =>
    if q1.1 = 0 then
      some ((-1), q1.2)
    else
      (c_m_in d q1.2 a2 0 5).bind fun q2 =>
        if q2.1 = 0 then
          some ((-1), q2.2)
        else
          (c_m_leadsTo d q2.2 a1 a2).bind fun q3 =>
            some (q3.1, q3.2) :=
  ga_blk_eq am_G (am_run d) mt_m_leads 19 0 [(0, 12, 0), (1, 0, a1), (2, 0, a2)] [] σ
set_option maxRecDepth 100000 in
theorem e_m_related (d : Nat) (σ : ga_S) (a1 a2 a3 : Int) : c_m_related (d + 1) σ a1 a2 a3 = (c_m_in d σ a1 0 (w32 ((σ fM_relations 0 0) - 1))).bind fun q1 =>
    if q1.1 = 0 then
      some (0, q1.2)
    else
      (c_m_in d q1.2 a2 0 (w32 ((q1.2 fM_objects 0 0) - 1))).bind fun q2 =>
        if q2.1 = 0 then
          some (0, q2.2)
        else
          (c_m_in d q2.2 a3 0 (w32 ((q2.2 fM_objects 0 0) - 1))).bind fun q3 =>
            if q3.1 = 0 then
              some (0, q3.2)
            else
              ga_ck (w32 ((w32 ((w32 (576 * a1)) + (w32 (24 * a2)))) + a3)) 3456 (if (q3.2 fM_related 0 (w32 ((w32 ((w32 (576 * a1)) + (w32 (24 * a2)))) + a3))) = 0 then
                  some (0, q3.2)
                else
                  some (1, q3.2)) :=
  ga_blk_eq am_G (am_run d) mt_m_related 40 0 [(0, 12, 0), (1, 0, a1), (2, 0, a2), (3, 0, a3)] [] σ
set_option maxRecDepth 100000 in
theorem e_m_rule2 (d : Nat) (σ : ga_S) (a1 a2 : Int) : c_m_rule2 (d + 1) σ a1 a2 = (c_m_in d σ a1 0 (w32 ((σ fM_rules 0 0) - 1))).bind fun q1 =>
    if q1.1 = 0 then
      some ((-1), q1.2)
    else
      if a2 = 0 then
        ga_ck a1 24 (some ((q1.2 fM_ruleSort 0 a1), q1.2))
      else
        if a2 = 1 then
          ga_ck a1 24 (some ((q1.2 fM_ruleAction 0 a1), q1.2))
        else
          if a2 = 2 then
            ga_ck a1 24 (some ((q1.2 fM_ruleObject 0 a1), q1.2))
          else
            if a2 = 3 then
              ga_ck a1 24 (some ((q1.2 fM_ruleKind 0 a1), q1.2))
            else
              if a2 = 4 then
                ga_ck a1 24 (some ((q1.2 fM_ruleAdjectives 0 a1), q1.2))
              else
                if a2 = 5 then
                  ga_ck a1 24 (some ((q1.2 fM_ruleTests 0 a1), q1.2))
                else
                  if a2 = 6 then
                    ga_ck a1 24 (some ((q1.2 fM_rulePhrases 0 a1), q1.2))
                  else
                    if a2 = 7 then
                      (c_m_orderOf d q1.2 a1).bind fun q2 =>
                        some (q2.1, q2.2)
                    else
                      some ((-1), q1.2) :=
  ga_blk_eq am_G (am_run d) mt_m_rule2 15 0 [(0, 12, 0), (1, 0, a1), (2, 0, a2)] [] σ
set_option maxRecDepth 100000 in
theorem e_m_outs (d : Nat) (σ : ga_S) : c_m_outs (d + 1) σ = some ((σ fM_outSize 0 0), σ) :=
  ga_blk_eq am_G (am_run d) mt_m_outs 3 0 [(0, 12, 0)] [] σ
set_option maxRecDepth 100000 in
theorem e_m_out (d : Nat) (σ : ga_S) (a1 : Int) : c_m_out (d + 1) σ a1 = (c_m_in d σ a1 0 (w32 ((σ fM_outSize 0 0) - 1))).bind fun q1 =>
    if q1.1 = 0 then
      some ((-1), q1.2)
    else
      ga_ck a1 2000 (some ((ga_iand (q1.2 fM_out 0 a1) 255), q1.2)) :=
  ga_blk_eq am_G (am_run d) mt_m_out 16 0 [(0, 12, 0), (1, 0, a1)] [] σ
set_option maxRecDepth 100000 in
theorem e_m_clear (d : Nat) (σ : ga_S) : c_m_clear (d + 1) σ = some ((σ fM_outSize 0 0), (ga_up σ fM_outSize 0 0 0)) :=
  ga_blk_eq am_G (am_run d) mt_m_clear 8 0 [(0, 12, 0)] [] σ
set_option maxRecDepth 100000 in
theorem e_t_take_tape (d : Nat) (σ : ga_S) (a0 a2 : Int) : c_t_take_tape (d + 1) σ a0 a2 = ga_nn a0 ((p_cpy_10_60 d σ 0 a0 0 a2).bind fun q1 =>
      ga_nn a0 (ga_nn a0 (ga_nn a0 (some (0, (ga_up (ga_up (ga_up q1.2 fT_size a0 0 a2) fT_at a0 0 0) fT_inText a0 0 0)))))) :=
  ga_blk_eq am_G (am_run d) mt_t_take 17 0 [(0, 6, a0), (1, 13, 0), (2, 0, a2)] [] σ
set_option maxRecDepth 100000 in
theorem e_x_isWord_letters (d : Nat) (σ : ga_S) (a1 a3 a4 : Int) : c_x_isWord_letters (d + 1) σ a1 a3 a4 = ga_ck a1 50 (ga_ck a1 50 (if (w32 ((σ fX_wordTo 0 a1) - (σ fX_wordFrom 0 a1))) = a4 then
        x_isWord_letters_23 d σ a1 a3 a4 1
      else
        x_isWord_letters_23 d σ a1 a3 a4 0)) :=
  ga_blk_eq am_G (am_run d) mt_x_isWord 13 0 [(0, 3, 0), (1, 0, a1), (2, 57, 0), (3, 0, a3), (4, 0, a4)] [] σ
set_option maxRecDepth 100000 in
theorem e_x_isWord_letters_23 (d : Nat) (σ : ga_S) (v1 v3 v4 s0 : Int) : x_isWord_letters_23 d σ v1 v3 v4 s0 = x_isWord_letters_28 d σ v1 v3 v4 s0 0 :=
  ga_blk_eq am_G (am_run d) mt_x_isWord 3 23 [(0, 3, 0), (1, 0, v1), (2, 57, 0), (3, 0, v3), (4, 0, v4)] [(0, s0)] σ
set_option maxRecDepth 100000 in
theorem e_x_isWord_letters_28 (d : Nat) (σ : ga_S) (v1 v3 v4 v5 v6 : Int) : x_isWord_letters_28 d σ v1 v3 v4 v5 v6 = if v6 < v4 then
    if v5 = 0 then
      ga_01 v5 (some (v5, σ))
    else
      ga_ck v1 50 ((c_x_low d σ (w32 ((σ fX_wordFrom 0 v1) + v6))).bind fun q1 =>
          ga_ck (w32 (v3 + v6)) 24000 (if q1.1 = (q1.2 fD_letters 0 (w32 (v3 + v6))) then
              x_isWord_letters_67 d q1.2 v1 v3 v4 v6 1
            else
              x_isWord_letters_67 d q1.2 v1 v3 v4 v6 0))
  else
    ga_01 v5 (some (v5, σ)) :=
  ga_blk_eq am_G (am_run d) mt_x_isWord 21 28 [(0, 3, 0), (1, 0, v1), (2, 57, 0), (3, 0, v3), (4, 0, v4), (5, 0, v5), (6, 0, v6)] [] σ
set_option maxRecDepth 100000 in
theorem e_x_isWord_letters_67 (d : Nat) (σ : ga_S) (v1 v3 v4 v6 s0 : Int) : x_isWord_letters_67 d σ v1 v3 v4 v6 s0 = x_isWord_letters_28 d σ v1 v3 v4 s0 (w32 (v6 + 1)) :=
  ga_blk_eq am_G (am_run d) mt_x_isWord 3 67 [(0, 3, 0), (1, 0, v1), (2, 57, 0), (3, 0, v3), (4, 0, v4), (6, 0, v6)] [(0, s0)] σ
set_option maxRecDepth 100000 in
theorem e_x_isWord_commandLetters (d : Nat) (σ : ga_S) (a1 a3 a4 : Int) : c_x_isWord_commandLetters (d + 1) σ a1 a3 a4 = ga_ck a1 50 (ga_ck a1 50 (if (w32 ((σ fX_wordTo 0 a1) - (σ fX_wordFrom 0 a1))) = a4 then
        x_isWord_commandLetters_23 d σ a1 a3 a4 1
      else
        x_isWord_commandLetters_23 d σ a1 a3 a4 0)) :=
  ga_blk_eq am_G (am_run d) mt_x_isWord 13 0 [(0, 3, 0), (1, 0, a1), (2, 56, 0), (3, 0, a3), (4, 0, a4)] [] σ
set_option maxRecDepth 100000 in
theorem e_x_isWord_commandLetters_23 (d : Nat) (σ : ga_S) (v1 v3 v4 s0 : Int) : x_isWord_commandLetters_23 d σ v1 v3 v4 s0 = x_isWord_commandLetters_28 d σ v1 v3 v4 s0 0 :=
  ga_blk_eq am_G (am_run d) mt_x_isWord 3 23 [(0, 3, 0), (1, 0, v1), (2, 56, 0), (3, 0, v3), (4, 0, v4)] [(0, s0)] σ
set_option maxRecDepth 100000 in
theorem e_x_isWord_commandLetters_28 (d : Nat) (σ : ga_S) (v1 v3 v4 v5 v6 : Int) : x_isWord_commandLetters_28 d σ v1 v3 v4 v5 v6 = if v6 < v4 then
    if v5 = 0 then
      ga_01 v5 (some (v5, σ))
    else
      ga_ck v1 50 ((c_x_low d σ (w32 ((σ fX_wordFrom 0 v1) + v6))).bind fun q1 =>
          ga_ck (w32 (v3 + v6)) 3000 (if q1.1 = (q1.2 fW_commandLetters 0 (w32 (v3 + v6))) then
              x_isWord_commandLetters_67 d q1.2 v1 v3 v4 v6 1
            else
              x_isWord_commandLetters_67 d q1.2 v1 v3 v4 v6 0))
  else
    ga_01 v5 (some (v5, σ)) :=
  ga_blk_eq am_G (am_run d) mt_x_isWord 21 28 [(0, 3, 0), (1, 0, v1), (2, 56, 0), (3, 0, v3), (4, 0, v4), (5, 0, v5), (6, 0, v6)] [] σ
set_option maxRecDepth 100000 in
theorem e_x_isWord_commandLetters_67 (d : Nat) (σ : ga_S) (v1 v3 v4 v6 s0 : Int) : x_isWord_commandLetters_67 d σ v1 v3 v4 v6 s0 = x_isWord_commandLetters_28 d σ v1 v3 v4 s0 (w32 (v6 + 1)) :=
  ga_blk_eq am_G (am_run d) mt_x_isWord 3 67 [(0, 3, 0), (1, 0, v1), (2, 56, 0), (3, 0, v3), (4, 0, v4), (6, 0, v6)] [(0, s0)] σ
set_option maxRecDepth 100000 in
theorem e_r_swap_rule (d : Nat) (σ : ga_S) (a2 : Int) : c_r_swap_rule (d + 1) σ a2 = ga_ck a2 24 (ga_ck a2 24 (some (0, (ga_up (ga_up σ fW_rule 0 a2 (σ fR_draft 0 0)) fR_draft 0 0 (σ fW_rule 0 a2))))) :=
  ga_blk_eq am_G (am_run d) mt_r_swap 13 0 [(0, 7, 0), (1, 47, 0), (2, 0, a2)] [] σ
set_option maxRecDepth 100000 in
theorem e_r_swap_defined (d : Nat) (σ : ga_S) (a2 : Int) : c_r_swap_defined (d + 1) σ a2 = ga_ck a2 24 (ga_ck a2 24 (some (0, (ga_up (ga_up σ fW_defined 0 a2 (σ fR_draft 0 0)) fR_draft 0 0 (σ fW_defined 0 a2))))) :=
  ga_blk_eq am_G (am_run d) mt_r_swap 13 0 [(0, 7, 0), (1, 24, 0), (2, 0, a2)] [] σ
set_option maxRecDepth 100000 in
theorem e_m_wordOf_story (d : Nat) (σ : ga_S) (a1 a2 : Int) : c_m_wordOf_story (d + 1) σ a1 a2 = m_wordOf_story_5 d σ a1 a2 0 0 :=
  ga_blk_eq am_G (am_run d) mt_m_wordOf 4 0 [(0, 92, 0), (1, 0, a1), (2, 0, a2)] [] σ
set_option maxRecDepth 100000 in
theorem e_m_wordOf_story_5 (d : Nat) (σ : ga_S) (v1 v2 v3 v5 : Int) : m_wordOf_story_5 d σ v1 v2 v3 v5 = if v5 < v2 then
    ga_ck (w32 (v1 + v5)) 5000 ((c_m_small d σ (σ fM_story 0 (w32 (v1 + v5)))).bind fun q1 =>
        m_wordOf_story_5 d q1.2 v1 v2 (ga_lor (ga_lshl v3 5) (w32 (q1.1 - 96))) (w32 (v5 + 1)))
  else
    some (v3, σ) :=
  ga_blk_eq am_G (am_run d) mt_m_wordOf 19 5 [(0, 92, 0), (1, 0, v1), (2, 0, v2), (3, 1, v3), (5, 0, v5)] [] σ
set_option maxRecDepth 100000 in
theorem e_m_listOf_spare (d : Nat) (σ : ga_S) (a1 a2 a4 : Int) : c_m_listOf_spare (d + 1) σ a1 a2 a4 = m_listOf_spare_9 d σ a2 a4 0 a1 1 :=
  ga_blk_eq am_G (am_run d) mt_m_listOf 6 0 [(0, 12, 0), (1, 0, a1), (2, 0, a2), (3, 176, 0), (4, 0, a4)] [] σ
set_option maxRecDepth 100000 in
theorem e_m_listOf_spare_9 (d : Nat) (σ : ga_S) (v2 v4 v5 v6 v7 : Int) : m_listOf_spare_9 d σ v2 v4 v5 v6 v7 = if v7 = 0 then
    some (v5, σ)
  else
    m_listOf_spare_18 d σ v2 v4 v5 v6 v6 :=
  ga_blk_eq am_G (am_run d) mt_m_listOf 4 9 [(0, 12, 0), (2, 0, v2), (3, 176, 0), (4, 0, v4), (5, 0, v5), (6, 0, v6), (7, 0, v7)] [] σ
set_option maxRecDepth 100000 in
theorem e_m_listOf_spare_18 (d : Nat) (σ : ga_S) (v2 v4 v5 v6 v8 : Int) : m_listOf_spare_18 d σ v2 v4 v5 v6 v8 = if v8 < v2 then
    ga_ck v8 5002 (if (σ fM_token 0 v8) = 116 then
        m_listOf_spare_54 d σ v2 v4 v5 v6 v8
      else
        ga_ck v8 5002 (if (σ fM_token 0 v8) = 44 then
            m_listOf_spare_54 d σ v2 v4 v5 v6 v8
          else
            m_listOf_spare_18 d σ v2 v4 v5 v6 (w32 (v8 + 1))))
  else
    m_listOf_spare_54 d σ v2 v4 v5 v6 v8 :=
  ga_blk_eq am_G (am_run d) mt_m_listOf 17 18 [(0, 12, 0), (2, 0, v2), (3, 176, 0), (4, 0, v4), (5, 0, v5), (6, 0, v6), (8, 0, v8)] [] σ
set_option maxRecDepth 100000 in
theorem e_m_listOf_spare_54 (d : Nat) (σ : ga_S) (v2 v4 v5 v6 v8 : Int) : m_listOf_spare_54 d σ v2 v4 v5 v6 v8 = (c_m_objectOf d σ v6 v8).bind fun q1 =>
    if q1.1 = (-9) then
      some (0, q1.2)
    else
      ga_ck q1.1 24 ((c_m_isBelow d q1.2 (q1.2 fM_kindOf 0 q1.1) v4).bind fun q2 =>
          if q2.1 = 0 then
            some (0, q2.2)
          else
            ga_ck v5 2600 (if v8 < v2 then
                m_listOf_spare_109 d (ga_up q2.2 fM_spare 0 v5 q1.1) v2 v4 (w32 (v5 + 1)) v8 1
              else
                m_listOf_spare_109 d (ga_up q2.2 fM_spare 0 v5 q1.1) v2 v4 (w32 (v5 + 1)) v8 0)) :=
  ga_blk_eq am_G (am_run d) mt_m_listOf 26 54 [(0, 12, 0), (2, 0, v2), (3, 176, 0), (4, 0, v4), (5, 0, v5), (6, 0, v6), (8, 0, v8)] [] σ
set_option maxRecDepth 100000 in
theorem e_m_listOf_spare_109 (d : Nat) (σ : ga_S) (v2 v4 v5 v8 s0 : Int) : m_listOf_spare_109 d σ v2 v4 v5 v8 s0 = if s0 = 0 then
    m_listOf_spare_158 d σ v2 v4 v5 s0 (w32 (v8 + 1))
  else
    ga_ck v8 5002 (if (σ fM_token 0 v8) = 44 then
        if (w32 (v8 + 1)) < v2 then
          ga_ck (w32 (v8 + 1)) 5002 (if (σ fM_token 0 (w32 (v8 + 1))) = 116 then
              m_listOf_spare_159 d σ v2 v4 v5 s0 1 (w32 (v8 + 1))
            else
              m_listOf_spare_158 d σ v2 v4 v5 s0 (w32 (v8 + 1)))
        else
          m_listOf_spare_158 d σ v2 v4 v5 s0 (w32 (v8 + 1))
      else
        m_listOf_spare_158 d σ v2 v4 v5 s0 (w32 (v8 + 1))) :=
  ga_blk_eq am_G (am_run d) mt_m_listOf 25 109 [(0, 12, 0), (2, 0, v2), (3, 176, 0), (4, 0, v4), (5, 0, v5), (8, 0, v8)] [(0, s0)] σ
set_option maxRecDepth 100000 in
theorem e_m_listOf_spare_158 (d : Nat) (σ : ga_S) (v2 v4 v5 v7 s0 : Int) : m_listOf_spare_158 d σ v2 v4 v5 v7 s0 = m_listOf_spare_159 d σ v2 v4 v5 v7 0 s0 :=
  ga_blk_eq am_G (am_run d) mt_m_listOf 1 158 [(0, 12, 0), (2, 0, v2), (3, 176, 0), (4, 0, v4), (5, 0, v5), (7, 0, v7)] [(0, s0)] σ
set_option maxRecDepth 100000 in
theorem e_m_listOf_spare_159 (d : Nat) (σ : ga_S) (v2 v4 v5 v7 s0 s1 : Int) : m_listOf_spare_159 d σ v2 v4 v5 v7 s0 s1 = m_listOf_spare_9 d σ v2 v4 v5 (w32 (s1 + s0)) v7 :=
  ga_blk_eq am_G (am_run d) mt_m_listOf 3 159 [(0, 12, 0), (2, 0, v2), (3, 176, 0), (4, 0, v4), (5, 0, v5), (7, 0, v7)] [(0, s0), (0, s1)] σ
set_option maxRecDepth 100000 in
theorem e_m_listOf_aheadObjects (d : Nat) (σ : ga_S) (a1 a2 a4 : Int) : c_m_listOf_aheadObjects (d + 1) σ a1 a2 a4 = m_listOf_aheadObjects_9 d σ a2 a4 0 a1 1 :=
  ga_blk_eq am_G (am_run d) mt_m_listOf 6 0 [(0, 12, 0), (1, 0, a1), (2, 0, a2), (3, 174, 0), (4, 0, a4)] [] σ
set_option maxRecDepth 100000 in
theorem e_m_listOf_aheadObjects_9 (d : Nat) (σ : ga_S) (v2 v4 v5 v6 v7 : Int) : m_listOf_aheadObjects_9 d σ v2 v4 v5 v6 v7 = if v7 = 0 then
    some (v5, σ)
  else
    m_listOf_aheadObjects_18 d σ v2 v4 v5 v6 v6 :=
  ga_blk_eq am_G (am_run d) mt_m_listOf 4 9 [(0, 12, 0), (2, 0, v2), (3, 174, 0), (4, 0, v4), (5, 0, v5), (6, 0, v6), (7, 0, v7)] [] σ
set_option maxRecDepth 100000 in
theorem e_m_listOf_aheadObjects_18 (d : Nat) (σ : ga_S) (v2 v4 v5 v6 v8 : Int) : m_listOf_aheadObjects_18 d σ v2 v4 v5 v6 v8 = if v8 < v2 then
    ga_ck v8 5002 (if (σ fM_token 0 v8) = 116 then
        m_listOf_aheadObjects_54 d σ v2 v4 v5 v6 v8
      else
        ga_ck v8 5002 (if (σ fM_token 0 v8) = 44 then
            m_listOf_aheadObjects_54 d σ v2 v4 v5 v6 v8
          else
            m_listOf_aheadObjects_18 d σ v2 v4 v5 v6 (w32 (v8 + 1))))
  else
    m_listOf_aheadObjects_54 d σ v2 v4 v5 v6 v8 :=
  ga_blk_eq am_G (am_run d) mt_m_listOf 17 18 [(0, 12, 0), (2, 0, v2), (3, 174, 0), (4, 0, v4), (5, 0, v5), (6, 0, v6), (8, 0, v8)] [] σ
set_option maxRecDepth 100000 in
theorem e_m_listOf_aheadObjects_54 (d : Nat) (σ : ga_S) (v2 v4 v5 v6 v8 : Int) : m_listOf_aheadObjects_54 d σ v2 v4 v5 v6 v8 = (c_m_objectOf d σ v6 v8).bind fun q1 =>
    if q1.1 = (-9) then
      some (0, q1.2)
    else
      ga_ck q1.1 24 ((c_m_isBelow d q1.2 (q1.2 fM_kindOf 0 q1.1) v4).bind fun q2 =>
          if q2.1 = 0 then
            some (0, q2.2)
          else
            ga_ck v5 2600 (if v8 < v2 then
                m_listOf_aheadObjects_109 d (ga_up q2.2 fM_aheadObjects 0 v5 q1.1) v2 v4 (w32 (v5 + 1)) v8 1
              else
                m_listOf_aheadObjects_109 d (ga_up q2.2 fM_aheadObjects 0 v5 q1.1) v2 v4 (w32 (v5 + 1)) v8 0)) :=
  ga_blk_eq am_G (am_run d) mt_m_listOf 26 54 [(0, 12, 0), (2, 0, v2), (3, 174, 0), (4, 0, v4), (5, 0, v5), (6, 0, v6), (8, 0, v8)] [] σ
set_option maxRecDepth 100000 in
theorem e_m_listOf_aheadObjects_109 (d : Nat) (σ : ga_S) (v2 v4 v5 v8 s0 : Int) : m_listOf_aheadObjects_109 d σ v2 v4 v5 v8 s0 = if s0 = 0 then
    m_listOf_aheadObjects_158 d σ v2 v4 v5 s0 (w32 (v8 + 1))
  else
    ga_ck v8 5002 (if (σ fM_token 0 v8) = 44 then
        if (w32 (v8 + 1)) < v2 then
          ga_ck (w32 (v8 + 1)) 5002 (if (σ fM_token 0 (w32 (v8 + 1))) = 116 then
              m_listOf_aheadObjects_159 d σ v2 v4 v5 s0 1 (w32 (v8 + 1))
            else
              m_listOf_aheadObjects_158 d σ v2 v4 v5 s0 (w32 (v8 + 1)))
        else
          m_listOf_aheadObjects_158 d σ v2 v4 v5 s0 (w32 (v8 + 1))
      else
        m_listOf_aheadObjects_158 d σ v2 v4 v5 s0 (w32 (v8 + 1))) :=
  ga_blk_eq am_G (am_run d) mt_m_listOf 25 109 [(0, 12, 0), (2, 0, v2), (3, 174, 0), (4, 0, v4), (5, 0, v5), (8, 0, v8)] [(0, s0)] σ
set_option maxRecDepth 100000 in
theorem e_m_listOf_aheadObjects_158 (d : Nat) (σ : ga_S) (v2 v4 v5 v7 s0 : Int) : m_listOf_aheadObjects_158 d σ v2 v4 v5 v7 s0 = m_listOf_aheadObjects_159 d σ v2 v4 v5 v7 0 s0 :=
  ga_blk_eq am_G (am_run d) mt_m_listOf 1 158 [(0, 12, 0), (2, 0, v2), (3, 174, 0), (4, 0, v4), (5, 0, v5), (7, 0, v7)] [(0, s0)] σ
set_option maxRecDepth 100000 in
theorem e_m_listOf_aheadObjects_159 (d : Nat) (σ : ga_S) (v2 v4 v5 v7 s0 s1 : Int) : m_listOf_aheadObjects_159 d σ v2 v4 v5 v7 s0 s1 = m_listOf_aheadObjects_9 d σ v2 v4 v5 (w32 (s1 + s0)) v7 :=
  ga_blk_eq am_G (am_run d) mt_m_listOf 3 159 [(0, 12, 0), (2, 0, v2), (3, 174, 0), (4, 0, v4), (5, 0, v5), (7, 0, v7)] [(0, s0), (0, s1)] σ
set_option maxRecDepth 100000 in
theorem e_m_listOf_behindObjects (d : Nat) (σ : ga_S) (a1 a2 a4 : Int) : c_m_listOf_behindObjects (d + 1) σ a1 a2 a4 = m_listOf_behindObjects_9 d σ a2 a4 0 a1 1 :=
  ga_blk_eq am_G (am_run d) mt_m_listOf 6 0 [(0, 12, 0), (1, 0, a1), (2, 0, a2), (3, 175, 0), (4, 0, a4)] [] σ
set_option maxRecDepth 100000 in
theorem e_m_listOf_behindObjects_9 (d : Nat) (σ : ga_S) (v2 v4 v5 v6 v7 : Int) : m_listOf_behindObjects_9 d σ v2 v4 v5 v6 v7 = if v7 = 0 then
    some (v5, σ)
  else
    m_listOf_behindObjects_18 d σ v2 v4 v5 v6 v6 :=
  ga_blk_eq am_G (am_run d) mt_m_listOf 4 9 [(0, 12, 0), (2, 0, v2), (3, 175, 0), (4, 0, v4), (5, 0, v5), (6, 0, v6), (7, 0, v7)] [] σ
set_option maxRecDepth 100000 in
theorem e_m_listOf_behindObjects_18 (d : Nat) (σ : ga_S) (v2 v4 v5 v6 v8 : Int) : m_listOf_behindObjects_18 d σ v2 v4 v5 v6 v8 = if v8 < v2 then
    ga_ck v8 5002 (if (σ fM_token 0 v8) = 116 then
        m_listOf_behindObjects_54 d σ v2 v4 v5 v6 v8
      else
        ga_ck v8 5002 (if (σ fM_token 0 v8) = 44 then
            m_listOf_behindObjects_54 d σ v2 v4 v5 v6 v8
          else
            m_listOf_behindObjects_18 d σ v2 v4 v5 v6 (w32 (v8 + 1))))
  else
    m_listOf_behindObjects_54 d σ v2 v4 v5 v6 v8 :=
  ga_blk_eq am_G (am_run d) mt_m_listOf 17 18 [(0, 12, 0), (2, 0, v2), (3, 175, 0), (4, 0, v4), (5, 0, v5), (6, 0, v6), (8, 0, v8)] [] σ
set_option maxRecDepth 100000 in
theorem e_m_listOf_behindObjects_54 (d : Nat) (σ : ga_S) (v2 v4 v5 v6 v8 : Int) : m_listOf_behindObjects_54 d σ v2 v4 v5 v6 v8 = (c_m_objectOf d σ v6 v8).bind fun q1 =>
    if q1.1 = (-9) then
      some (0, q1.2)
    else
      ga_ck q1.1 24 ((c_m_isBelow d q1.2 (q1.2 fM_kindOf 0 q1.1) v4).bind fun q2 =>
          if q2.1 = 0 then
            some (0, q2.2)
          else
            ga_ck v5 2600 (if v8 < v2 then
                m_listOf_behindObjects_109 d (ga_up q2.2 fM_behindObjects 0 v5 q1.1) v2 v4 (w32 (v5 + 1)) v8 1
              else
                m_listOf_behindObjects_109 d (ga_up q2.2 fM_behindObjects 0 v5 q1.1) v2 v4 (w32 (v5 + 1)) v8 0)) :=
  ga_blk_eq am_G (am_run d) mt_m_listOf 26 54 [(0, 12, 0), (2, 0, v2), (3, 175, 0), (4, 0, v4), (5, 0, v5), (6, 0, v6), (8, 0, v8)] [] σ
set_option maxRecDepth 100000 in
theorem e_m_listOf_behindObjects_109 (d : Nat) (σ : ga_S) (v2 v4 v5 v8 s0 : Int) : m_listOf_behindObjects_109 d σ v2 v4 v5 v8 s0 = if s0 = 0 then
    m_listOf_behindObjects_158 d σ v2 v4 v5 s0 (w32 (v8 + 1))
  else
    ga_ck v8 5002 (if (σ fM_token 0 v8) = 44 then
        if (w32 (v8 + 1)) < v2 then
          ga_ck (w32 (v8 + 1)) 5002 (if (σ fM_token 0 (w32 (v8 + 1))) = 116 then
              m_listOf_behindObjects_159 d σ v2 v4 v5 s0 1 (w32 (v8 + 1))
            else
              m_listOf_behindObjects_158 d σ v2 v4 v5 s0 (w32 (v8 + 1)))
        else
          m_listOf_behindObjects_158 d σ v2 v4 v5 s0 (w32 (v8 + 1))
      else
        m_listOf_behindObjects_158 d σ v2 v4 v5 s0 (w32 (v8 + 1))) :=
  ga_blk_eq am_G (am_run d) mt_m_listOf 25 109 [(0, 12, 0), (2, 0, v2), (3, 175, 0), (4, 0, v4), (5, 0, v5), (8, 0, v8)] [(0, s0)] σ
set_option maxRecDepth 100000 in
theorem e_m_listOf_behindObjects_158 (d : Nat) (σ : ga_S) (v2 v4 v5 v7 s0 : Int) : m_listOf_behindObjects_158 d σ v2 v4 v5 v7 s0 = m_listOf_behindObjects_159 d σ v2 v4 v5 v7 0 s0 :=
  ga_blk_eq am_G (am_run d) mt_m_listOf 1 158 [(0, 12, 0), (2, 0, v2), (3, 175, 0), (4, 0, v4), (5, 0, v5), (7, 0, v7)] [(0, s0)] σ
set_option maxRecDepth 100000 in
theorem e_m_listOf_behindObjects_159 (d : Nat) (σ : ga_S) (v2 v4 v5 v7 s0 s1 : Int) : m_listOf_behindObjects_159 d σ v2 v4 v5 v7 s0 s1 = m_listOf_behindObjects_9 d σ v2 v4 v5 (w32 (s1 + s0)) v7 :=
  ga_blk_eq am_G (am_run d) mt_m_listOf 3 159 [(0, 12, 0), (2, 0, v2), (3, 175, 0), (4, 0, v4), (5, 0, v5), (7, 0, v7)] [(0, s0), (0, s1)] σ
set_option maxRecDepth 100000 in
theorem e_m_tellIs_objectIs (d : Nat) (σ : ga_S) (a2 a3 a4 : Int) : c_m_tellIs_objectIs (d + 1) σ a2 a3 a4 = ga_ck (w32 (a2 + a3)) 576 (if a4 = 0 then
      m_tellIs_objectIs_19 d σ a2 a3 a4 (w32 (a2 + a3)) 1 (σ fM_objectIs 0 (w32 (a2 + a3)))
    else
      m_tellIs_objectIs_19 d σ a2 a3 a4 (w32 (a2 + a3)) 2 (σ fM_objectIs 0 (w32 (a2 + a3)))) :=
  ga_blk_eq am_G (am_run d) mt_m_tellIs 11 0 [(0, 12, 0), (1, 111, 0), (2, 0, a2), (3, 0, a3), (4, 0, a4)] [] σ
set_option maxRecDepth 100000 in
theorem e_m_tellIs_objectIs_19 (d : Nat) (σ : ga_S) (v2 v3 v4 v5 s0 s1 : Int) : m_tellIs_objectIs_19 d σ v2 v3 v4 v5 s0 s1 = if s1 = s0 then
    some (0, σ)
  else
    if v4 = 0 then
      m_tellIs_objectIs_37 d σ v2 v3 v4 2 v5
    else
      m_tellIs_objectIs_37 d σ v2 v3 v4 1 v5 :=
  ga_blk_eq am_G (am_run d) mt_m_tellIs 7 19 [(0, 12, 0), (1, 111, 0), (2, 0, v2), (3, 0, v3), (4, 0, v4), (5, 0, v5)] [(0, s0), (0, s1)] σ
set_option maxRecDepth 100000 in
theorem e_m_tellIs_objectIs_37 (d : Nat) (σ : ga_S) (v2 v3 v4 s0 s1 : Int) : m_tellIs_objectIs_37 d σ v2 v3 v4 s0 s1 = ga_ck s1 576 (ga_ck v3 24 (if (σ fM_contrary 0 v3) = (-1) then
        some (1, (ga_up σ fM_objectIs 0 s1 s0))
      else
        ga_ck v3 24 (if v4 = 0 then
            m_tellIs_objectIs_67 d (ga_up σ fM_objectIs 0 s1 s0) 1 (w32 (v2 + (σ fM_contrary 0 v3)))
          else
            m_tellIs_objectIs_67 d (ga_up σ fM_objectIs 0 s1 s0) 2 (w32 (v2 + (σ fM_contrary 0 v3)))))) :=
  ga_blk_eq am_G (am_run d) mt_m_tellIs 18 37 [(0, 12, 0), (1, 111, 0), (2, 0, v2), (3, 0, v3), (4, 0, v4)] [(0, s0), (0, s1), (111, 0)] σ
set_option maxRecDepth 100000 in
theorem e_m_tellIs_objectIs_67 (d : Nat) (σ : ga_S) (s0 s1 : Int) : m_tellIs_objectIs_67 d σ s0 s1 = ga_ck s1 576 (some (1, (ga_up σ fM_objectIs 0 s1 s0))) :=
  ga_blk_eq am_G (am_run d) mt_m_tellIs 3 67 [] [(0, s0), (0, s1), (111, 0)] σ
set_option maxRecDepth 100000 in
theorem e_m_tellIs_kindIs (d : Nat) (σ : ga_S) (a2 a3 a4 : Int) : c_m_tellIs_kindIs (d + 1) σ a2 a3 a4 = ga_ck (w32 (a2 + a3)) 384 (if a4 = 0 then
      m_tellIs_kindIs_19 d σ a2 a3 a4 (w32 (a2 + a3)) 1 (σ fM_kindIs 0 (w32 (a2 + a3)))
    else
      m_tellIs_kindIs_19 d σ a2 a3 a4 (w32 (a2 + a3)) 2 (σ fM_kindIs 0 (w32 (a2 + a3)))) :=
  ga_blk_eq am_G (am_run d) mt_m_tellIs 11 0 [(0, 12, 0), (1, 112, 0), (2, 0, a2), (3, 0, a3), (4, 0, a4)] [] σ
set_option maxRecDepth 100000 in
theorem e_m_tellIs_kindIs_19 (d : Nat) (σ : ga_S) (v2 v3 v4 v5 s0 s1 : Int) : m_tellIs_kindIs_19 d σ v2 v3 v4 v5 s0 s1 = if s1 = s0 then
    some (0, σ)
  else
    if v4 = 0 then
      m_tellIs_kindIs_37 d σ v2 v3 v4 2 v5
    else
      m_tellIs_kindIs_37 d σ v2 v3 v4 1 v5 :=
  ga_blk_eq am_G (am_run d) mt_m_tellIs 7 19 [(0, 12, 0), (1, 112, 0), (2, 0, v2), (3, 0, v3), (4, 0, v4), (5, 0, v5)] [(0, s0), (0, s1)] σ
set_option maxRecDepth 100000 in
theorem e_m_tellIs_kindIs_37 (d : Nat) (σ : ga_S) (v2 v3 v4 s0 s1 : Int) : m_tellIs_kindIs_37 d σ v2 v3 v4 s0 s1 = ga_ck s1 384 (ga_ck v3 24 (if (σ fM_contrary 0 v3) = (-1) then
        some (1, (ga_up σ fM_kindIs 0 s1 s0))
      else
        ga_ck v3 24 (if v4 = 0 then
            m_tellIs_kindIs_67 d (ga_up σ fM_kindIs 0 s1 s0) 1 (w32 (v2 + (σ fM_contrary 0 v3)))
          else
            m_tellIs_kindIs_67 d (ga_up σ fM_kindIs 0 s1 s0) 2 (w32 (v2 + (σ fM_contrary 0 v3)))))) :=
  ga_blk_eq am_G (am_run d) mt_m_tellIs 18 37 [(0, 12, 0), (1, 112, 0), (2, 0, v2), (3, 0, v3), (4, 0, v4)] [(0, s0), (0, s1), (112, 0)] σ
set_option maxRecDepth 100000 in
theorem e_m_tellIs_kindIs_67 (d : Nat) (σ : ga_S) (s0 s1 : Int) : m_tellIs_kindIs_67 d σ s0 s1 = ga_ck s1 384 (some (1, (ga_up σ fM_kindIs 0 s1 s0))) :=
  ga_blk_eq am_G (am_run d) mt_m_tellIs 3 67 [] [(0, s0), (0, s1), (112, 0)] σ
set_option maxRecDepth 100000 in
theorem e_m_wordOf_tape (d : Nat) (σ : ga_S) (a1 a2 : Int) : c_m_wordOf_tape (d + 1) σ a1 a2 = m_wordOf_tape_5 d σ a1 a2 0 0 :=
  ga_blk_eq am_G (am_run d) mt_m_wordOf 4 0 [(0, 91, 0), (1, 0, a1), (2, 0, a2)] [] σ
set_option maxRecDepth 100000 in
theorem e_m_wordOf_tape_5 (d : Nat) (σ : ga_S) (v1 v2 v3 v5 : Int) : m_wordOf_tape_5 d σ v1 v2 v3 v5 = if v5 < v2 then
    ga_ck (w32 (v1 + v5)) 5000 ((c_m_small d σ (σ fM_tape 0 (w32 (v1 + v5)))).bind fun q1 =>
        m_wordOf_tape_5 d q1.2 v1 v2 (ga_lor (ga_lshl v3 5) (w32 (q1.1 - 96))) (w32 (v5 + 1)))
  else
    some (v3, σ) :=
  ga_blk_eq am_G (am_run d) mt_m_wordOf 19 5 [(0, 91, 0), (1, 0, v1), (2, 0, v2), (3, 1, v3), (5, 0, v5)] [] σ

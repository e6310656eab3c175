set_option maxRecDepth 100000 in
theorem e_m_meansRun (d : Nat) (σ : ga_S) (a1 a2 : Int) : c_m_meansRun (d + 1) σ a1 a2 = ga_ck a1 2600 (ga_ck a1 2600 ((c_m_means d σ (σ fM_runFrom 0 a1) (σ fM_runSize 0 a1) a2).bind fun q1 =>
        some (q1.1, q1.2))) :=
  ga_blk_eq am_G (am_run d) mt_m_meansRun 12 0 [(0, 12, 0), (1, 0, a1), (2, 0, a2)] [] σ
set_option maxRecDepth 100000 in
theorem e_m_meansNothing (d : Nat) (σ : ga_S) (a1 : Int) : c_m_meansNothing (d + 1) σ a1 = ga_ck a1 2600 (ga_ck a1 2600 ((c_m_mean d σ (σ fM_runFrom 0 a1) (σ fM_runSize 0 a1)).bind fun q1 =>
        if q1.1 = (-1) then
          some (1, q1.2)
        else
          some (0, q1.2))) :=
  ga_blk_eq am_G (am_run d) mt_m_meansNothing 15 0 [(0, 12, 0), (1, 0, a1)] [] σ
set_option maxRecDepth 100000 in
theorem e_m_kindOfRun (d : Nat) (σ : ga_S) (a1 : Int) : c_m_kindOfRun (d + 1) σ a1 = (c_m_meansRun d σ a1 0).bind fun q1 =>
    if q1.1 = (-1) then
      m_kindOfRun_18 d q1.2 a1 q1.1 0
    else
      m_kindOfRun_18 d q1.2 a1 q1.1 1 :=
  ga_blk_eq am_G (am_run d) mt_m_kindOfRun 11 0 [(0, 12, 0), (1, 0, a1)] [] σ
set_option maxRecDepth 100000 in
theorem e_m_kindOfRun_18 (d : Nat) (σ : ga_S) (v1 v2 s0 : Int) : m_kindOfRun_18 d σ v1 v2 s0 = ga_ck v1 2600 ((c_m_need d σ s0 4 (σ fM_runFrom 0 v1)).bind fun q2 =>
      some (v2, q2.2)) :=
  ga_blk_eq am_G (am_run d) mt_m_kindOfRun 8 18 [(0, 12, 0), (1, 0, v1), (2, 0, v2)] [(0, s0), (12, 0)] σ
set_option maxRecDepth 100000 in
theorem e_m_kindOrPlural (d : Nat) (σ : ga_S) (a1 : Int) : c_m_kindOrPlural (d + 1) σ a1 = (c_m_meansRun d σ a1 0).bind fun q1 =>
    if q1.1 = (-1) then
      (c_m_meansRun d q1.2 a1 1).bind fun q2 =>
        some (q2.1, q2.2)
    else
      some (q1.1, q1.2) :=
  ga_blk_eq am_G (am_run d) mt_m_kindOrPlural 13 0 [(0, 12, 0), (1, 0, a1)] [] σ
set_option maxRecDepth 100000 in
theorem e_m_typeOrPlural (d : Nat) (σ : ga_S) (a1 : Int) : c_m_typeOrPlural (d + 1) σ a1 = (c_m_meansRun d σ a1 2).bind fun q1 =>
    if q1.1 = (-1) then
      (c_m_meansRun d q1.2 a1 3).bind fun q2 =>
        some (q2.1, q2.2)
    else
      some (q1.1, q1.2) :=
  ga_blk_eq am_G (am_run d) mt_m_typeOrPlural 13 0 [(0, 12, 0), (1, 0, a1)] [] σ
set_option maxRecDepth 100000 in
theorem e_m_objectsOrNew (d : Nat) (σ : ga_S) : c_m_objectsOrNew (d + 1) σ = m_objectsOrNew_7 d σ (σ fM_objects 0 0) 0 :=
  ga_blk_eq am_G (am_run d) mt_m_objectsOrNew 5 0 [(0, 12, 0)] [] σ
set_option maxRecDepth 100000 in
theorem e_m_objectsOrNew_7 (d : Nat) (σ : ga_S) (v1 v2 : Int) : m_objectsOrNew_7 d σ v1 v2 = if v2 < (σ fM_listSize 0 0) then
    (c_m_meansRun d σ (w32 ((σ fM_listFrom 0 0) + v2)) 4).bind fun q1 =>
      if q1.1 = (-1) then
        (c_m_meansNothing d q1.2 (w32 ((σ fM_listFrom 0 0) + v2))).bind fun q2 =>
          if q2.1 = 0 then
            ga_ck (w32 ((σ fM_listFrom 0 0) + v2)) 2600 ((c_m_note d q2.2 4 (q2.2 fM_runFrom 0 (w32 ((σ fM_listFrom 0 0) + v2)))).bind fun q3 =>
                m_objectsOrNew_85 d q3.2 v1 v2)
          else
            (c_m_isNew d q2.2 (w32 ((σ fM_listFrom 0 0) + v2))).bind fun q4 =>
              (c_m_mustBeNew d q4.2 (w32 ((σ fM_listFrom 0 0) + v2)) v1 24).bind fun q5 =>
                if q4.1 = 0 then
                  m_objectsOrNew_69 d q5.2 v2 0 v1
                else
                  m_objectsOrNew_69 d q5.2 v2 1 v1
      else
        m_objectsOrNew_85 d q1.2 v1 v2
  else
    some (0, σ) :=
  ga_blk_eq am_G (am_run d) mt_m_objectsOrNew 33 7 [(0, 12, 0), (1, 0, v1), (2, 0, v2)] [] σ
set_option maxRecDepth 100000 in
theorem e_m_objectsOrNew_85 (d : Nat) (σ : ga_S) (v1 v2 : Int) : m_objectsOrNew_85 d σ v1 v2 = m_objectsOrNew_7 d σ v1 (w32 (v2 + 1)) :=
  ga_blk_eq am_G (am_run d) mt_m_objectsOrNew 2 85 [(0, 12, 0), (1, 0, v1), (2, 0, v2)] [] σ
set_option maxRecDepth 100000 in
theorem e_m_objectsOrNew_69 (d : Nat) (σ : ga_S) (v2 s0 s1 : Int) : m_objectsOrNew_69 d σ v2 s0 s1 = m_objectsOrNew_85 d σ (w32 (s1 + s0)) v2 :=
  ga_blk_eq am_G (am_run d) mt_m_objectsOrNew 3 69 [(0, 12, 0), (2, 0, v2)] [(0, s0), (0, s1)] σ
set_option maxRecDepth 100000 in
theorem e_m_adjective (d : Nat) (σ : ga_S) (a1 a2 a3 a4 a5 : Int) : c_m_adjective (d + 1) σ a1 a2 a3 a4 a5 = (c_m_mean d σ a1 a2).bind fun q1 =>
    if q1.1 = (-1) then
      some (0, (ga_up q1.2 fM_foundAdjective 0 0 (-1)))
    else
      ga_ck q1.1 300 (ga_ck q1.1 300 (if (q1.2 fM_lexSort 0 q1.1) = 5 then
            ga_ck (q1.2 fM_lexIndex 0 q1.1) 24 ((c_m_isBelow d (ga_up q1.2 fM_foundAdjective 0 0 (-1)) a3 (q1.2 fM_adjectiveKind 0 (q1.2 fM_lexIndex 0 q1.1))).bind fun q2 =>
                if q2.1 = 0 then
                  m_adjective_79 d q2.2 a3 a5 q1.1 (q1.2 fM_lexIndex 0 q1.1)
                else
                  if a4 = 0 then
                    ga_ck (q1.2 fM_lexIndex 0 q1.1) 24 (if (q2.2 fM_definedTests 0 (q1.2 fM_lexIndex 0 q1.1)) = 0 then
                        m_adjective_71 d q2.2 (q1.2 fM_lexIndex 0 q1.1)
                      else
                        m_adjective_79 d q2.2 a3 a5 q1.1 (q1.2 fM_lexIndex 0 q1.1))
                  else
                    m_adjective_71 d q2.2 (q1.2 fM_lexIndex 0 q1.1))
          else
            m_adjective_79 d (ga_up q1.2 fM_foundAdjective 0 0 (-1)) a3 a5 q1.1 (q1.2 fM_lexIndex 0 q1.1))) :=
  ga_blk_eq am_G (am_run d) mt_m_adjective 37 0 [(0, 12, 0), (1, 0, a1), (2, 0, a2), (3, 0, a3), (4, 0, a4), (5, 0, a5)] [] σ
set_option maxRecDepth 100000 in
theorem e_m_adjective_79 (d : Nat) (σ : ga_S) (v3 v5 v6 v7 : Int) : m_adjective_79 d σ v3 v5 v6 v7 = ga_ck v6 300 (if (σ fM_lexSort 0 v6) = 6 then
      if v5 = 0 then
        some (0, σ)
      else
        ga_ck v7 64 ((c_m_propertyOf d σ v3 (σ fM_valueType 0 v7)).bind fun q3 =>
            if q3.1 = (-1) then
              m_adjective_132 d q3.2 (-1)
            else
              m_adjective_132 d q3.2 (w32 ((w32 (100 + (w32 (100 * v7)))) + q3.1)))
    else
      some (0, σ)) :=
  ga_blk_eq am_G (am_run d) mt_m_adjective 27 79 [(0, 12, 0), (3, 0, v3), (5, 0, v5), (6, 0, v6), (7, 0, v7)] [] σ
set_option maxRecDepth 100000 in
theorem e_m_adjective_71 (d : Nat) (σ : ga_S) (v7 : Int) : m_adjective_71 d σ v7 = some (1, (ga_up σ fM_foundAdjective 0 0 v7)) :=
  ga_blk_eq am_G (am_run d) mt_m_adjective 5 71 [(0, 12, 0), (7, 0, v7)] [] σ
set_option maxRecDepth 100000 in
theorem e_m_adjective_132 (d : Nat) (σ : ga_S) (s0 : Int) : m_adjective_132 d σ s0 = some ((σ fM_matches 0 0), (ga_up σ fM_foundAdjective 0 0 s0)) :=
  ga_blk_eq am_G (am_run d) mt_m_adjective 4 132 [(0, 12, 0)] [(0, s0), (12, 0)] σ
set_option maxRecDepth 100000 in
theorem e_m_parted (d : Nat) (σ : ga_S) (a1 a2 a3 a4 a5 : Int) : c_m_parted (d + 1) σ a1 a2 a3 a4 a5 = if a1 = a2 then
    if (σ fM_readings 0 0) = 0 then
      (p_cpy_151_150 d (ga_up (ga_up σ fM_readKind 0 0 a3) fM_readCount 0 0 a5) 0 0 6).bind fun q1 =>
        m_parted_38 d q1.2
    else
      m_parted_38 d σ
  else
    m_parted_52 d σ a1 a2 a3 a4 a5 1 :=
  ga_blk_eq am_G (am_run d) mt_m_parted 20 0 [(0, 12, 0), (1, 0, a1), (2, 0, a2), (3, 0, a3), (4, 0, a4), (5, 0, a5)] [] σ
set_option maxRecDepth 100000 in
theorem e_m_parted_52 (d : Nat) (σ : ga_S) (v1 v2 v3 v4 v5 v6 : Int) : m_parted_52 d σ v1 v2 v3 v4 v5 v6 = if 3 < v6 then
    some (0, σ)
  else
    if v2 < (w32 (v1 + v6)) then
      some (0, σ)
    else
      (c_m_adjective d σ v1 v6 v3 v4 1).bind fun q2 =>
        m_parted_88 d q2.2 v1 v2 v3 v4 v5 v6 q2.1 (q2.2 fM_foundAdjective 0 0) 0 :=
  ga_blk_eq am_G (am_run d) mt_m_parted 21 52 [(0, 12, 0), (1, 0, v1), (2, 0, v2), (3, 0, v3), (4, 0, v4), (5, 0, v5), (6, 0, v6)] [] σ
set_option maxRecDepth 100000 in
theorem e_m_parted_38 (d : Nat) (σ : ga_S) : m_parted_38 d σ = some (0, (ga_up σ fM_readings 0 0 (w32 ((σ fM_readings 0 0) + 1)))) :=
  ga_blk_eq am_G (am_run d) mt_m_parted 7 38 [(0, 12, 0)] [] σ
set_option maxRecDepth 100000 in
theorem e_m_parted_88 (d : Nat) (σ : ga_S) (v1 v2 v3 v4 v5 v6 v7 v8 v9 : Int) : m_parted_88 d σ v1 v2 v3 v4 v5 v6 v7 v8 v9 = if v9 < v7 then
    ga_ck v5 6 ((c_m_parted d (ga_up σ fM_chunk 0 v5 v8) (w32 (v1 + v6)) v2 v3 v4 (w32 (v5 + 1))).bind fun q3 =>
        m_parted_88 d q3.2 v1 v2 v3 v4 v5 v6 v7 v8 (w32 (v9 + 1)))
  else
    m_parted_52 d σ v1 v2 v3 v4 v5 (w32 (v6 + 1)) :=
  ga_blk_eq am_G (am_run d) mt_m_parted 21 88 [(0, 12, 0), (1, 0, v1), (2, 0, v2), (3, 0, v3), (4, 0, v4), (5, 0, v5), (6, 0, v6), (7, 0, v7), (8, 0, v8), (9, 0, v9)] [] σ
set_option maxRecDepth 100000 in
theorem e_m_describe (d : Nat) (σ : ga_S) (a1 a2 a3 a4 a5 : Int) : c_m_describe (d + 1) σ a1 a2 a3 a4 a5 = if 6 < a2 then
    some (0, σ)
  else
    m_describe_10 d σ a1 a2 a3 a4 a5 1 :=
  ga_blk_eq am_G (am_run d) mt_m_describe 5 0 [(0, 12, 0), (1, 0, a1), (2, 0, a2), (3, 0, a3), (4, 0, a4), (5, 0, a5)] [] σ
set_option maxRecDepth 100000 in
theorem e_m_describe_10 (d : Nat) (σ : ga_S) (v1 v2 v3 v4 v5 v6 : Int) : m_describe_10 d σ v1 v2 v3 v4 v5 v6 = if 3 < v6 then
    some (0, σ)
  else
    if v2 < v6 then
      some (0, σ)
    else
      if v3 = 0 then
        m_describe_40 d σ v1 v2 v3 v4 v5 v6 0 v6 (w32 ((w32 (v1 + v2)) - v6))
      else
        m_describe_40 d σ v1 v2 v3 v4 v5 v6 1 v6 (w32 ((w32 (v1 + v2)) - v6)) :=
  ga_blk_eq am_G (am_run d) mt_m_describe 17 10 [(0, 12, 0), (1, 0, v1), (2, 0, v2), (3, 0, v3), (4, 0, v4), (5, 0, v5), (6, 0, v6)] [] σ
set_option maxRecDepth 100000 in
theorem e_m_describe_40 (d : Nat) (σ : ga_S) (v1 v2 v3 v4 v5 v6 s0 s1 s2 : Int) : m_describe_40 d σ v1 v2 v3 v4 v5 v6 s0 s1 s2 = (c_m_means d σ s2 s1 s0).bind fun q1 =>
    if q1.1 = (-1) then
      m_describe_84 d q1.2 v1 v2 v3 v4 v5 v6
    else
      if v5 = (-1) then
        m_describe_68 d q1.2 v1 v2 v3 v4 v5 v6 q1.1
      else
        (c_m_isBelow d q1.2 q1.1 v5).bind fun q2 =>
          if q2.1 = 0 then
            m_describe_84 d q2.2 v1 v2 v3 v4 v5 v6
          else
            m_describe_68 d q2.2 v1 v2 v3 v4 v5 v6 q1.1 :=
  ga_blk_eq am_G (am_run d) mt_m_describe 13 40 [(0, 12, 0), (1, 0, v1), (2, 0, v2), (3, 0, v3), (4, 0, v4), (5, 0, v5), (6, 0, v6)] [(0, s0), (0, s1), (0, s2), (12, 0)] σ
set_option maxRecDepth 100000 in
theorem e_m_describe_84 (d : Nat) (σ : ga_S) (v1 v2 v3 v4 v5 v6 : Int) : m_describe_84 d σ v1 v2 v3 v4 v5 v6 = m_describe_10 d σ v1 v2 v3 v4 v5 (w32 (v6 + 1)) :=
  ga_blk_eq am_G (am_run d) mt_m_describe 2 84 [(0, 12, 0), (1, 0, v1), (2, 0, v2), (3, 0, v3), (4, 0, v4), (5, 0, v5), (6, 0, v6)] [] σ
set_option maxRecDepth 100000 in
theorem e_m_describe_68 (d : Nat) (σ : ga_S) (v1 v2 v3 v4 v5 v6 v7 : Int) : m_describe_68 d σ v1 v2 v3 v4 v5 v6 v7 = (c_m_parted d σ v1 (w32 ((w32 (v1 + v2)) - v6)) v7 v4 0).bind fun q3 =>
    m_describe_84 d q3.2 v1 v2 v3 v4 v5 v6 :=
  ga_blk_eq am_G (am_run d) mt_m_describe 11 68 [(0, 12, 0), (1, 0, v1), (2, 0, v2), (3, 0, v3), (4, 0, v4), (5, 0, v5), (6, 0, v6), (7, 0, v7)] [] σ
set_option maxRecDepth 100000 in
theorem e_m_oneReading (d : Nat) (σ : ga_S) (a1 : Int) : c_m_oneReading (d + 1) σ a1 = if 0 < (σ fM_readings 0 0) then
    m_oneReading_13 d σ a1 1
  else
    m_oneReading_13 d σ a1 0 :=
  ga_blk_eq am_G (am_run d) mt_m_oneReading 6 0 [(0, 12, 0), (1, 0, a1)] [] σ
set_option maxRecDepth 100000 in
theorem e_m_oneReading_13 (d : Nat) (σ : ga_S) (v1 s0 : Int) : m_oneReading_13 d σ v1 s0 = (c_m_need d σ s0 4 v1).bind fun q1 =>
    if (q1.2 fM_readings 0 0) < 2 then
      m_oneReading_32 d q1.2 v1 1
    else
      m_oneReading_32 d q1.2 v1 0 :=
  ga_blk_eq am_G (am_run d) mt_m_oneReading 10 13 [(0, 12, 0), (1, 0, v1)] [(0, s0), (12, 0)] σ
set_option maxRecDepth 100000 in
theorem e_m_oneReading_32 (d : Nat) (σ : ga_S) (v1 s0 : Int) : m_oneReading_32 d σ v1 s0 = (c_m_need d σ s0 7 v1).bind fun q2 =>
    some (0, q2.2) :=
  ga_blk_eq am_G (am_run d) mt_m_oneReading 4 32 [(1, 0, v1)] [(0, s0), (12, 0)] σ
set_option maxRecDepth 100000 in
theorem e_m_kindOfThing (d : Nat) (σ : ga_S) (a1 : Int) : c_m_kindOfThing (d + 1) σ a1 = if a1 = (-1) then
    some ((σ fM_itKind 0 0), σ)
  else
    if a1 = (-2) then
      some ((σ fM_nounKind 0 0), σ)
    else
      if a1 = (-9) then
        some ((-1), σ)
      else
        ga_ck a1 24 (some ((σ fM_kindOf 0 a1), σ)) :=
  ga_blk_eq am_G (am_run d) mt_m_kindOfThing 14 0 [(0, 12, 0), (1, 0, a1)] [] σ
set_option maxRecDepth 100000 in
theorem e_m_meant (d : Nat) (σ : ga_S) (a1 a2 : Int) : c_m_meant (d + 1) σ a1 a2 = if (w32 (Int.tdiv a1 10000)) = 0 then
    if (σ fM_itKind 0 0) = (-1) then
      m_meant_63 d σ (w32 (Int.tdiv a1 10000)) (w32 (Int.tmod a1 10000)) (-9)
    else
      m_meant_63 d σ (w32 (Int.tdiv a1 10000)) (w32 (Int.tmod a1 10000)) (-1)
  else
    if (w32 (Int.tdiv a1 10000)) = 1 then
      if (σ fM_nounKind 0 0) = (-1) then
        m_meant_63 d σ (w32 (Int.tdiv a1 10000)) (w32 (Int.tmod a1 10000)) (-9)
      else
        m_meant_63 d σ (w32 (Int.tdiv a1 10000)) (w32 (Int.tmod a1 10000)) (-2)
    else
      (c_m_meansRun d σ a2 4).bind fun q1 =>
        m_meant_63 d q1.2 (w32 (Int.tdiv a1 10000)) (w32 (Int.tmod a1 10000)) q1.1 :=
  ga_blk_eq am_G (am_run d) mt_m_meant 19 0 [(0, 12, 0), (1, 0, a1), (2, 0, a2)] [] σ
set_option maxRecDepth 100000 in
theorem e_m_meant_63 (d : Nat) (σ : ga_S) (v3 v4 s0 : Int) : m_meant_63 d σ v3 v4 s0 = if v3 = 2 then
    if s0 = (-1) then
      m_meant_83 d σ v4 (-9)
    else
      m_meant_81 d σ v4 s0
  else
    m_meant_81 d σ v4 s0 :=
  ga_blk_eq am_G (am_run d) mt_m_meant 9 63 [(0, 12, 0), (3, 0, v3), (4, 0, v4)] [(0, s0)] σ
set_option maxRecDepth 100000 in
theorem e_m_meant_81 (d : Nat) (σ : ga_S) (v4 v5 : Int) : m_meant_81 d σ v4 v5 = m_meant_83 d σ v4 v5 :=
  ga_blk_eq am_G (am_run d) mt_m_meant 1 81 [(0, 12, 0), (4, 0, v4), (5, 0, v5)] [] σ
set_option maxRecDepth 100000 in
theorem e_m_meant_83 (d : Nat) (σ : ga_S) (v4 s0 : Int) : m_meant_83 d σ v4 s0 = if s0 = (-9) then
    m_meant_98 d σ v4 s0 0
  else
    m_meant_98 d σ v4 s0 1 :=
  ga_blk_eq am_G (am_run d) mt_m_meant 7 83 [(0, 12, 0), (4, 0, v4)] [(0, s0)] σ
set_option maxRecDepth 100000 in
theorem e_m_meant_98 (d : Nat) (σ : ga_S) (v4 v5 s0 : Int) : m_meant_98 d σ v4 v5 s0 = (c_m_need d σ s0 4 v4).bind fun q2 =>
    some (v5, q2.2) :=
  ga_blk_eq am_G (am_run d) mt_m_meant 5 98 [(4, 0, v4), (5, 0, v5)] [(0, s0), (12, 0)] σ
set_option maxRecDepth 100000 in
theorem e_m_thingOf (d : Nat) (σ : ga_S) (a1 a2 : Int) : c_m_thingOf (d + 1) σ a1 a2 = if (w32 (a2 - a1)) = 1 then
    ga_ck a1 5002 (if (σ fM_token 0 a1) = 154 then
        if (σ fM_itKind 0 0) = (-1) then
          some ((-9), σ)
        else
          some ((-1), σ)
      else
        m_thingOf_36 d σ a1 a2 (w32 (a2 - a1)))
  else
    m_thingOf_36 d σ a1 a2 (w32 (a2 - a1)) :=
  ga_blk_eq am_G (am_run d) mt_m_thingOf 20 0 [(0, 12, 0), (1, 0, a1), (2, 0, a2)] [] σ
set_option maxRecDepth 100000 in
theorem e_m_thingOf_36 (d : Nat) (σ : ga_S) (v1 v2 v3 : Int) : m_thingOf_36 d σ v1 v2 v3 = if 0 < v3 then
    ga_ck (w32 (v2 - 1)) 5002 (if (σ fM_token 0 (w32 (v2 - 1))) = 153 then
        if (σ fM_nounKind 0 0) = (-1) then
          some ((-9), σ)
        else
          if v3 = 1 then
            m_thingOf_83 d σ
          else
            if v3 = 2 then
              ga_ck v1 5002 (if (σ fM_token 0 v1) = 102 then
                  m_thingOf_83 d σ
                else
                  some ((-9), σ))
            else
              some ((-9), σ)
      else
        m_thingOf_91 d σ v1 v2)
  else
    m_thingOf_91 d σ v1 v2 :=
  ga_blk_eq am_G (am_run d) mt_m_thingOf 28 36 [(0, 12, 0), (1, 0, v1), (2, 0, v2), (3, 0, v3)] [] σ
set_option maxRecDepth 100000 in
theorem e_m_thingOf_91 (d : Nat) (σ : ga_S) (v1 v2 : Int) : m_thingOf_91 d σ v1 v2 = (c_m_objectOf d σ v1 v2).bind fun q1 =>
    some (q1.1, q1.2) :=
  ga_blk_eq am_G (am_run d) mt_m_thingOf 5 91 [(0, 12, 0), (1, 0, v1), (2, 0, v2)] [] σ
set_option maxRecDepth 100000 in
theorem e_m_thingOf_83 (d : Nat) (σ : ga_S) : m_thingOf_83 d σ = some ((-2), σ) :=
  ga_blk_eq am_G (am_run d) mt_m_thingOf 3 83 [] [] σ
set_option maxRecDepth 100000 in
theorem e_m_objectOf (d : Nat) (σ : ga_S) (a1 a2 : Int) : c_m_objectOf (d + 1) σ a1 a2 = if a1 < a2 then
    ga_ck a1 5002 ((c_m_isArt d σ (σ fM_token 0 a1)).bind fun q1 =>
        if q1.1 = 0 then
          m_objectOf_23 d q1.2 a1 a2
        else
          m_objectOf_24 d q1.2 a2 (w32 (a1 + 1)))
  else
    m_objectOf_23 d σ a1 a2 :=
  ga_blk_eq am_G (am_run d) mt_m_objectOf 13 0 [(0, 12, 0), (1, 0, a1), (2, 0, a2)] [] σ
set_option maxRecDepth 100000 in
theorem e_m_objectOf_23 (d : Nat) (σ : ga_S) (v1 v2 : Int) : m_objectOf_23 d σ v1 v2 = m_objectOf_24 d σ v2 v1 :=
  ga_blk_eq am_G (am_run d) mt_m_objectOf 1 23 [(0, 12, 0), (1, 0, v1), (2, 0, v2)] [] σ
set_option maxRecDepth 100000 in
theorem e_m_objectOf_24 (d : Nat) (σ : ga_S) (v2 s0 : Int) : m_objectOf_24 d σ v2 s0 = m_objectOf_28 d σ v2 s0 s0 :=
  ga_blk_eq am_G (am_run d) mt_m_objectOf 3 24 [(0, 12, 0), (2, 0, v2)] [(0, s0)] σ
set_option maxRecDepth 100000 in
theorem e_m_objectOf_28 (d : Nat) (σ : ga_S) (v2 v3 v4 : Int) : m_objectOf_28 d σ v2 v3 v4 = if v4 < v2 then
    ga_ck v4 5002 (if (σ fM_token 0 v4) = 3 then
        m_objectOf_28 d σ v2 v3 (w32 (v4 + 1))
      else
        some ((-9), σ))
  else
    (c_m_means d σ v3 (w32 (v2 - v3)) 4).bind fun q2 =>
      if q2.1 = (-1) then
        some ((-9), q2.2)
      else
        some (q2.1, q2.2) :=
  ga_blk_eq am_G (am_run d) mt_m_objectOf 17 28 [(0, 12, 0), (2, 0, v2), (3, 0, v3), (4, 0, v4)] [] σ
set_option maxRecDepth 100000 in
theorem e_m_fits (d : Nat) (σ : ga_S) (a1 a2 : Int) : c_m_fits (d + 1) σ a1 a2 = if a1 = (-9) then
    some (0, σ)
  else
    (c_m_kindOfThing d σ a1).bind fun q1 =>
      (c_m_isBelow d q1.2 q1.1 a2).bind fun q2 =>
        if q2.1 = 0 then
          some (0, q2.2)
        else
          some (1, q2.2) :=
  ga_blk_eq am_G (am_run d) mt_m_fits 13 0 [(0, 12, 0), (1, 0, a1), (2, 0, a2)] [] σ
set_option maxRecDepth 100000 in
theorem e_m_sayings (d : Nat) (σ : ga_S) (a1 a2 a3 : Int) : c_m_sayings (d + 1) σ a1 a2 a3 = m_sayings_8 d σ a1 a2 a3 0 (w32 (a1 + 1)) :=
  ga_blk_eq am_G (am_run d) mt_m_sayings 6 0 [(0, 12, 0), (1, 0, a1), (2, 0, a2), (3, 0, a3)] [] σ
set_option maxRecDepth 100000 in
theorem e_m_sayings_8 (d : Nat) (σ : ga_S) (v1 v2 v3 v4 v5 : Int) : m_sayings_8 d σ v1 v2 v3 v4 v5 = if (w32 (v5 + 1)) < v2 then
    ga_ck v5 5002 (if (σ fM_token 0 v5) = 3 then
        (c_m_means d σ v5 1 10).bind fun q1 =>
          m_sayings_40 d q1.2 v1 v2 v3 v4 v5 q1.1
      else
        m_sayings_40 d σ v1 v2 v3 v4 v5 (-1))
  else
    some (v4, σ) :=
  ga_blk_eq am_G (am_run d) mt_m_sayings 17 8 [(0, 12, 0), (1, 0, v1), (2, 0, v2), (3, 0, v3), (4, 0, v4), (5, 0, v5)] [] σ
set_option maxRecDepth 100000 in
theorem e_m_sayings_40 (d : Nat) (σ : ga_S) (v1 v2 v3 v4 v5 s0 : Int) : m_sayings_40 d σ v1 v2 v3 v4 v5 s0 = if s0 = (-1) then
    m_sayings_141 d σ v1 v2 v3 v4 v5
  else
    ga_ck s0 8 ((c_m_thingOf d σ v1 v5).bind fun q2 =>
        (c_m_thingOf d q2.2 (w32 (v5 + 1)) v2).bind fun q3 =>
          ga_ck (σ fM_verbRelation 0 s0) 6 ((c_m_fits d q3.2 q2.1 (q3.2 fM_relates 0 (σ fM_verbRelation 0 s0))).bind fun q4 =>
              if q4.1 = 0 then
                m_sayings_141 d q4.2 v1 v2 v3 v4 v5
              else
                ga_ck (σ fM_verbRelation 0 s0) 6 ((c_m_fits d q4.2 q3.1 (q4.2 fM_relatesTo 0 (σ fM_verbRelation 0 s0))).bind fun q5 =>
                    if q5.1 = 0 then
                      m_sayings_141 d q5.2 v1 v2 v3 v4 v5
                    else
                      if v4 = 0 then
                        ga_ck v3 2400 (ga_ck v3 2400 (ga_ck v3 2400 (m_sayings_138 d (ga_up (ga_up (ga_up q5.2 fM_qThing 0 v3 q2.1) fM_qOther 0 v3 q3.1) fM_qProperty 0 v3 (σ fM_verbRelation 0 s0)) v1 v2 v3 v4 v5)))
                      else
                        m_sayings_138 d q5.2 v1 v2 v3 v4 v5))) :=
  ga_blk_eq am_G (am_run d) mt_m_sayings 54 40 [(0, 12, 0), (1, 0, v1), (2, 0, v2), (3, 0, v3), (4, 0, v4), (5, 0, v5)] [(0, s0)] σ
set_option maxRecDepth 100000 in
theorem e_m_sayings_141 (d : Nat) (σ : ga_S) (v1 v2 v3 v4 v5 : Int) : m_sayings_141 d σ v1 v2 v3 v4 v5 = m_sayings_8 d σ v1 v2 v3 v4 (w32 (v5 + 1)) :=
  ga_blk_eq am_G (am_run d) mt_m_sayings 2 141 [(0, 12, 0), (1, 0, v1), (2, 0, v2), (3, 0, v3), (4, 0, v4), (5, 0, v5)] [] σ
set_option maxRecDepth 100000 in
theorem e_m_sayings_138 (d : Nat) (σ : ga_S) (v1 v2 v3 v4 v5 : Int) : m_sayings_138 d σ v1 v2 v3 v4 v5 = m_sayings_141 d σ v1 v2 v3 (w32 (v4 + 1)) v5 :=
  ga_blk_eq am_G (am_run d) mt_m_sayings 1 138 [(0, 12, 0), (1, 0, v1), (2, 0, v2), (3, 0, v3), (4, 0, v4), (5, 0, v5)] [] σ
set_option maxRecDepth 100000 in
theorem e_m_propertyMeant (d : Nat) (σ : ga_S) (a1 a2 : Int) : c_m_propertyMeant (d + 1) σ a1 a2 = (c_m_meansRun d σ a1 7).bind fun q1 =>
    if q1.1 = (-1) then
      m_propertyMeant_37 d q1.2 a1 a2 q1.1
    else
      if a2 = (-9) then
        m_propertyMeant_33 d q1.2 a1 a2 q1.1
      else
        (c_m_kindOfThing d q1.2 a2).bind fun q2 =>
          (c_m_has d q2.2 q2.1 q1.1).bind fun q3 =>
            if q3.1 = 0 then
              m_propertyMeant_37 d q3.2 a1 a2 q1.1
            else
              m_propertyMeant_33 d q3.2 a1 a2 q1.1 :=
  ga_blk_eq am_G (am_run d) mt_m_propertyMeant 19 0 [(0, 12, 0), (1, 0, a1), (2, 0, a2)] [] σ
set_option maxRecDepth 100000 in
theorem e_m_propertyMeant_37 (d : Nat) (σ : ga_S) (v1 v2 v3 : Int) : m_propertyMeant_37 d σ v1 v2 v3 = m_propertyMeant_38 d σ v1 v2 v3 0 :=
  ga_blk_eq am_G (am_run d) mt_m_propertyMeant 1 37 [(0, 12, 0), (1, 0, v1), (2, 0, v2), (3, 0, v3)] [(12, 0)] σ
set_option maxRecDepth 100000 in
theorem e_m_propertyMeant_33 (d : Nat) (σ : ga_S) (v1 v2 v3 : Int) : m_propertyMeant_33 d σ v1 v2 v3 = m_propertyMeant_38 d σ v1 v2 v3 1 :=
  ga_blk_eq am_G (am_run d) mt_m_propertyMeant 2 33 [(0, 12, 0), (1, 0, v1), (2, 0, v2), (3, 0, v3)] [(12, 0)] σ
set_option maxRecDepth 100000 in
theorem e_m_propertyMeant_38 (d : Nat) (σ : ga_S) (v1 v2 v3 s0 : Int) : m_propertyMeant_38 d σ v1 v2 v3 s0 = ga_ck v1 2600 ((c_m_need d σ s0 4 (σ fM_runFrom 0 v1)).bind fun q4 =>
      if v3 = (-1) then
        some ((-1), q4.2)
      else
        if v2 = (-9) then
          some ((-1), q4.2)
        else
          (c_m_kindOfThing d q4.2 v2).bind fun q5 =>
            (c_m_has d q5.2 q5.1 v3).bind fun q6 =>
              if q6.1 = 0 then
                some ((-1), q6.2)
              else
                some (v3, q6.2)) :=
  ga_blk_eq am_G (am_run d) mt_m_propertyMeant 22 38 [(0, 12, 0), (1, 0, v1), (2, 0, v2), (3, 0, v3)] [(0, s0), (12, 0)] σ
set_option maxRecDepth 100000 in
theorem e_m_numberMeant (d : Nat) (σ : ga_S) (a1 : Int) : c_m_numberMeant (d + 1) σ a1 = (c_m_meansRun d σ a1 7).bind fun q1 =>
    if q1.1 = (-1) then
      m_numberMeant_23 d q1.2 a1
    else
      ga_ck q1.1 12 (if (q1.2 fM_propertyType 0 q1.1) = 0 then
          m_numberMeant_23 d q1.2 a1
        else
          m_numberMeant_28 d q1.2 a1 0) :=
  ga_blk_eq am_G (am_run d) mt_m_numberMeant 15 0 [(0, 12, 0), (1, 0, a1)] [] σ
set_option maxRecDepth 100000 in
theorem e_m_numberMeant_23 (d : Nat) (σ : ga_S) (v1 : Int) : m_numberMeant_23 d σ v1 = m_numberMeant_28 d σ v1 1 :=
  ga_blk_eq am_G (am_run d) mt_m_numberMeant 2 23 [(0, 12, 0), (1, 0, v1)] [(12, 0)] σ
set_option maxRecDepth 100000 in
theorem e_m_numberMeant_28 (d : Nat) (σ : ga_S) (v1 s0 : Int) : m_numberMeant_28 d σ v1 s0 = ga_ck v1 2600 ((c_m_need d σ s0 4 (σ fM_runFrom 0 v1)).bind fun q2 =>
      some (0, q2.2)) :=
  ga_blk_eq am_G (am_run d) mt_m_numberMeant 7 28 [(0, 12, 0), (1, 0, v1)] [(0, s0), (12, 0)] σ
set_option maxRecDepth 100000 in
theorem e_m_whatMeant (d : Nat) (σ : ga_S) (a1 a2 a3 a4 : Int) : c_m_whatMeant (d + 1) σ a1 a2 a3 a4 = ga_ck a1 5002 (ga_ck a4 2400 (ga_ck a4 2400 (if (σ fM_token 0 a1) = 4 then
          if a3 = 0 then
            m_whatMeant_40 d (ga_up (ga_up σ fM_qWhat 0 a4 0) fM_qLong 0 a4 0) a1 a4 1
          else
            m_whatMeant_40 d (ga_up (ga_up σ fM_qWhat 0 a4 0) fM_qLong 0 a4 0) a1 a4 0
        else
          if (σ fM_token 0 a1) = 5 then
            if a3 = 1 then
              m_whatMeant_79 d (ga_up (ga_up σ fM_qWhat 0 a4 0) fM_qLong 0 a4 0) a1 a4 1
            else
              m_whatMeant_79 d (ga_up (ga_up σ fM_qWhat 0 a4 0) fM_qLong 0 a4 0) a1 a4 0
          else
            (c_m_meansRun d (ga_up (ga_up σ fM_qWhat 0 a4 0) fM_qLong 0 a4 0) a2 6).bind fun q1 =>
              if q1.1 = (-1) then
                m_whatMeant_146 d q1.2 a1 a4 q1.1
              else
                ga_ck q1.1 64 (if (q1.2 fM_valueType 0 q1.1) = a3 then
                    m_whatMeant_147 d q1.2 a1 a4 q1.1 1
                  else
                    m_whatMeant_146 d q1.2 a1 a4 q1.1)))) :=
  ga_blk_eq am_G (am_run d) mt_m_whatMeant 38 0 [(0, 12, 0), (1, 0, a1), (2, 0, a2), (3, 0, a3), (4, 0, a4)] [] σ
set_option maxRecDepth 100000 in
theorem e_m_whatMeant_146 (d : Nat) (σ : ga_S) (v1 v4 v6 : Int) : m_whatMeant_146 d σ v1 v4 v6 = m_whatMeant_147 d σ v1 v4 v6 0 :=
  ga_blk_eq am_G (am_run d) mt_m_whatMeant 1 146 [(0, 12, 0), (1, 0, v1), (4, 0, v4), (6, 0, v6)] [(12, 0)] σ
set_option maxRecDepth 100000 in
theorem e_m_whatMeant_147 (d : Nat) (σ : ga_S) (v1 v4 v6 s0 : Int) : m_whatMeant_147 d σ v1 v4 v6 s0 = (c_m_need d σ s0 4 v1).bind fun q2 =>
    ga_ck v4 2400 (some (0, (ga_up q2.2 fM_qWhat 0 v4 v6))) :=
  ga_blk_eq am_G (am_run d) mt_m_whatMeant 9 147 [(0, 12, 0), (1, 0, v1), (4, 0, v4), (6, 0, v6)] [(0, s0), (12, 0)] σ
set_option maxRecDepth 100000 in
theorem e_m_whatMeant_79 (d : Nat) (σ : ga_S) (v1 v4 s0 : Int) : m_whatMeant_79 d σ v1 v4 s0 = (c_m_need d σ s0 4 v1).bind fun q3 =>
    ga_ck v1 5002 (ga_ck v4 2400 (ga_ck v1 5002 (ga_ck v4 2400 (some (0, (ga_up (ga_up q3.2 fM_qWhat 0 v4 (w32 ((q3.2 fM_place 0 v1) + 1))) fM_qLong 0 v4 (q3.2 fM_length 0 v1))))))) :=
  ga_blk_eq am_G (am_run d) mt_m_whatMeant 23 79 [(0, 12, 0), (1, 0, v1), (4, 0, v4)] [(0, s0), (12, 0)] σ
set_option maxRecDepth 100000 in
theorem e_m_whatMeant_40 (d : Nat) (σ : ga_S) (v1 v4 s0 : Int) : m_whatMeant_40 d σ v1 v4 s0 = (c_m_need d σ s0 4 v1).bind fun q4 =>
    ga_ck v1 5002 (ga_ck v4 2400 (some (0, (ga_up q4.2 fM_qWhat 0 v4 (w32 (q4.2 fM_word 0 v1)))))) :=
  ga_blk_eq am_G (am_run d) mt_m_whatMeant 14 40 [(0, 12, 0), (1, 0, v1), (4, 0, v4)] [(0, s0), (12, 0)] σ
set_option maxRecDepth 100000 in
theorem e_m_kindOfWay (d : Nat) (σ : ga_S) (a0 : Int) : c_m_kindOfWay (d + 1) σ a0 = if a0 = 2 then
    some (3, σ)
  else
    if a0 = 3 then
      some (0, σ)
    else
      some (4, σ) :=
  ga_blk_eq am_G (am_run d) mt_m_kindOfWay 9 0 [(0, 0, a0)] [] σ
set_option maxRecDepth 100000 in
theorem e_m_mayHold (d : Nat) (σ : ga_S) (a1 a2 : Int) : c_m_mayHold (d + 1) σ a1 a2 = if a1 = 1 then
    (c_m_isBelow d σ a2 1).bind fun q3 =>
      if q3.1 = 0 then
        (c_m_isBelow d q3.2 a2 2).bind fun q4 =>
          if q4.1 = 0 then
            some (0, q4.2)
          else
            m_mayHold_23 d q4.2
      else
        m_mayHold_23 d q3.2
  else
    (c_m_kindOfWay d σ a1).bind fun q1 =>
      (c_m_isBelow d q1.2 a2 q1.1).bind fun q2 =>
        ga_01 q2.1 (some (q2.1, q2.2)) :=
  ga_blk_eq am_G (am_run d) mt_m_mayHold 16 0 [(0, 12, 0), (1, 0, a1), (2, 0, a2)] [] σ
set_option maxRecDepth 100000 in
theorem e_m_mayHold_23 (d : Nat) (σ : ga_S) : m_mayHold_23 d σ = some (1, σ) :=
  ga_blk_eq am_G (am_run d) mt_m_mayHold 3 23 [] [] σ
set_option maxRecDepth 100000 in
theorem e_m_testMeant (d : Nat) (σ : ga_S) (a1 a2 a3 : Int) : c_m_testMeant (d + 1) σ a1 a2 a3 = ga_ck a1 1700 (ga_ck a2 2400 (ga_ck a1 1700 (ga_ck a2 2400 (ga_01 (σ fM_tNot 0 a1) (ga_ck a1 1700 (if (σ fM_tForm 0 a1) = 5 then
                ga_ck a1 1700 (ga_ck a1 1700 ((c_m_sayings d (ga_up (ga_up σ fM_qForm 0 a2 (σ fM_tForm 0 a1)) fM_qNot 0 a2 (σ fM_tNot 0 a1)) (σ fM_tFirst 0 a1) (σ fM_tEnd 0 a1) a2).bind fun q6 =>
                      if 0 < q6.1 then
                        m_testMeant_68 d q6.2 (σ fM_tFirst 0 a1) q6.1 1
                      else
                        m_testMeant_68 d q6.2 (σ fM_tFirst 0 a1) q6.1 0))
              else
                ga_ck a1 1700 (ga_ck a1 1700 ((c_m_meant d (ga_up (ga_up σ fM_qForm 0 a2 (σ fM_tForm 0 a1)) fM_qNot 0 a2 (σ fM_tNot 0 a1)) (σ fM_tThing 0 a1) (σ fM_tThingRun 0 a1)).bind fun q1 =>
                      ga_ck a2 2400 (ga_ck a1 1700 (if (q1.2 fM_tForm 0 a1) = 3 then
                            if q1.1 = (-9) then
                              some (0, (ga_up q1.2 fM_qThing 0 a2 q1.1))
                            else
                              ga_ck a1 1700 (ga_ck (q1.2 fM_tRun 0 a1) 2600 (if 3 < (q1.2 fM_runSize 0 (q1.2 fM_tRun 0 a1)) then
                                    m_testMeant_207 d (ga_up q1.2 fM_qThing 0 a2 q1.1) a2 (q1.2 fM_tRun 0 a1) 0
                                  else
                                    ga_ck (q1.2 fM_tRun 0 a1) 2600 (ga_ck (q1.2 fM_tRun 0 a1) 2600 ((c_m_kindOfThing d (ga_up q1.2 fM_qThing 0 a2 q1.1) q1.1).bind fun q5 =>
                                          if a3 = 0 then
                                            m_testMeant_190 d q5.2 a1 a2 (q1.2 fM_tRun 0 a1) 1 q5.1 (q1.2 fM_runSize 0 (q1.2 fM_tRun 0 a1)) (q1.2 fM_runFrom 0 (q1.2 fM_tRun 0 a1))
                                          else
                                            m_testMeant_190 d q5.2 a1 a2 (q1.2 fM_tRun 0 a1) 0 q5.1 (q1.2 fM_runSize 0 (q1.2 fM_tRun 0 a1)) (q1.2 fM_runFrom 0 (q1.2 fM_tRun 0 a1))))))
                          else
                            ga_ck a1 1700 (if (q1.2 fM_tForm 0 a1) = 4 then
                                ga_ck a1 1700 (ga_ck a1 1700 ((c_m_meant d (ga_up q1.2 fM_qThing 0 a2 q1.1) (q1.2 fM_tOther 0 a1) (q1.2 fM_tOtherRun 0 a1)).bind fun q4 =>
                                      ga_ck a2 2400 (ga_ck a1 1700 (ga_ck a2 2400 (some (0, (ga_up (ga_up q4.2 fM_qOther 0 a2 q4.1) fM_qWhat 0 a2 (q4.2 fM_tWay 0 a1))))))))
                              else
                                ga_ck a1 1700 ((c_m_propertyMeant d (ga_up q1.2 fM_qThing 0 a2 q1.1) (q1.2 fM_tRun 0 a1) q1.1).bind fun q2 =>
                                    ga_ck a2 2400 (if q2.1 = (-1) then
                                        m_testMeant_392 d (ga_up q2.2 fM_qProperty 0 a2 q2.1) a1 a2
                                      else
                                        ga_ck a1 1700 (if (q2.2 fM_tForm 0 a1) = 0 then
                                            ga_ck a1 1700 (ga_ck a1 1700 (ga_ck q2.1 12 ((c_m_whatMeant d (ga_up q2.2 fM_qProperty 0 a2 q2.1) (q2.2 fM_tWhat 0 a1) (q2.2 fM_tOtherRun 0 a1) (q2.2 fM_propertyType 0 q2.1) a2).bind fun q3 =>
                                                    some (0, q3.2))))
                                          else
                                            m_testMeant_392 d (ga_up q2.2 fM_qProperty 0 a2 q2.1) a1 a2)))))))))))))) :=
  ga_blk_eq am_G (am_run d) mt_m_testMeant 88 0 [(0, 12, 0), (1, 0, a1), (2, 0, a2), (3, 0, a3)] [] σ
set_option maxRecDepth 100000 in
theorem e_m_testMeant_392 (d : Nat) (σ : ga_S) (v1 v2 : Int) : m_testMeant_392 d σ v1 v2 = ga_ck v1 1700 (if (σ fM_tForm 0 v1) = 0 then
      some (0, σ)
    else
      ga_ck v1 1700 ((c_m_numberMeant d σ (σ fM_tRun 0 v1)).bind fun q7 =>
          ga_ck v1 1700 (ga_ck (q7.2 fM_tWhat 0 v1) 5002 (ga_ck v2 2400 (some (0, (ga_up q7.2 fM_qWhat 0 v2 (w32 (q7.2 fM_word 0 (q7.2 fM_tWhat 0 v1)))))))))) :=
  ga_blk_eq am_G (am_run d) mt_m_testMeant 24 392 [(0, 12, 0), (1, 0, v1), (2, 0, v2)] [] σ
set_option maxRecDepth 100000 in
theorem e_m_testMeant_190 (d : Nat) (σ : ga_S) (v1 v2 v5 s0 s1 s2 s3 : Int) : m_testMeant_190 d σ v1 v2 v5 s0 s1 s2 s3 = ga_ck v1 1700 (if (σ fM_tNot 0 v1) = 0 then
      m_testMeant_204 d σ v2 v5 1 s0 s1 s2 s3
    else
      m_testMeant_204 d σ v2 v5 0 s0 s1 s2 s3) :=
  ga_blk_eq am_G (am_run d) mt_m_testMeant 7 190 [(0, 12, 0), (1, 0, v1), (2, 0, v2), (5, 0, v5)] [(0, s0), (0, s1), (0, s2), (0, s3), (12, 0)] σ
set_option maxRecDepth 100000 in
theorem e_m_testMeant_207 (d : Nat) (σ : ga_S) (v2 v5 s0 : Int) : m_testMeant_207 d σ v2 v5 s0 = if 0 < s0 then
    m_testMeant_220 d σ v2 v5 s0 1
  else
    m_testMeant_220 d σ v2 v5 s0 0 :=
  ga_blk_eq am_G (am_run d) mt_m_testMeant 6 207 [(0, 12, 0), (2, 0, v2), (5, 0, v5)] [(0, s0)] σ
set_option maxRecDepth 100000 in
theorem e_m_testMeant_68 (d : Nat) (σ : ga_S) (v4 v5 s0 : Int) : m_testMeant_68 d σ v4 v5 s0 = (c_m_need d σ s0 4 v4).bind fun q8 =>
    if v5 < 2 then
      m_testMeant_86 d q8.2 v4 1
    else
      m_testMeant_86 d q8.2 v4 0 :=
  ga_blk_eq am_G (am_run d) mt_m_testMeant 9 68 [(0, 12, 0), (4, 0, v4), (5, 0, v5)] [(0, s0), (12, 0)] σ
set_option maxRecDepth 100000 in
theorem e_m_testMeant_204 (d : Nat) (σ : ga_S) (v2 v5 s0 s1 s2 s3 s4 : Int) : m_testMeant_204 d σ v2 v5 s0 s1 s2 s3 s4 = (c_m_adjective d σ s4 s3 s2 s1 s0).bind fun q9 =>
    m_testMeant_207 d q9.2 v2 v5 q9.1 :=
  ga_blk_eq am_G (am_run d) mt_m_testMeant 1 204 [(0, 12, 0), (2, 0, v2), (5, 0, v5)] [(0, s0), (0, s1), (0, s2), (0, s3), (0, s4), (12, 0)] σ
set_option maxRecDepth 100000 in
theorem e_m_testMeant_220 (d : Nat) (σ : ga_S) (v2 v5 v6 s0 : Int) : m_testMeant_220 d σ v2 v5 v6 s0 = ga_ck v5 2600 ((c_m_need d σ s0 4 (σ fM_runFrom 0 v5)).bind fun q10 =>
      if v6 < 2 then
        m_testMeant_243 d q10.2 v2 v5 v6 1
      else
        m_testMeant_243 d q10.2 v2 v5 v6 0) :=
  ga_blk_eq am_G (am_run d) mt_m_testMeant 12 220 [(0, 12, 0), (2, 0, v2), (5, 0, v5), (6, 0, v6)] [(0, s0), (12, 0)] σ
set_option maxRecDepth 100000 in
theorem e_m_testMeant_86 (d : Nat) (σ : ga_S) (v4 s0 : Int) : m_testMeant_86 d σ v4 s0 = (c_m_need d σ s0 7 v4).bind fun q11 =>
    some (0, q11.2) :=
  ga_blk_eq am_G (am_run d) mt_m_testMeant 4 86 [(4, 0, v4)] [(0, s0), (12, 0)] σ
set_option maxRecDepth 100000 in
theorem e_m_testMeant_243 (d : Nat) (σ : ga_S) (v2 v5 v6 s0 : Int) : m_testMeant_243 d σ v2 v5 v6 s0 = ga_ck v5 2600 ((c_m_need d σ s0 7 (σ fM_runFrom 0 v5)).bind fun q12 =>
      if 0 < v6 then
        m_testMeant_273 d q12.2 (q12.2 fM_foundAdjective 0 0) v2
      else
        m_testMeant_273 d q12.2 0 v2) :=
  ga_blk_eq am_G (am_run d) mt_m_testMeant 14 243 [(0, 12, 0), (2, 0, v2), (5, 0, v5), (6, 0, v6)] [(0, s0), (12, 0)] σ
set_option maxRecDepth 100000 in
theorem e_m_testMeant_273 (d : Nat) (σ : ga_S) (s0 s1 : Int) : m_testMeant_273 d σ s0 s1 = ga_ck s1 2400 (some (0, (ga_up σ fM_qWhat 0 s1 s0))) :=
  ga_blk_eq am_G (am_run d) mt_m_testMeant 3 273 [] [(0, s0), (0, s1), (159, 0)] σ
set_option maxRecDepth 100000 in
theorem e_m_testsMeant (d : Nat) (σ : ga_S) : c_m_testsMeant (d + 1) σ = m_testsMeant_2 d σ 0 :=
  ga_blk_eq am_G (am_run d) mt_m_testsMeant 2 0 [(0, 12, 0)] [] σ
set_option maxRecDepth 100000 in
theorem e_m_testsMeant_2 (d : Nat) (σ : ga_S) (v1 : Int) : m_testsMeant_2 d σ v1 = if v1 < (σ fM_tShown 0 0) then
    if v1 < 6 then
      m_testsMeant_22 d σ v1 1
    else
      m_testsMeant_22 d σ v1 0
  else
    some (0, σ) :=
  ga_blk_eq am_G (am_run d) mt_m_testsMeant 10 2 [(0, 12, 0), (1, 0, v1)] [] σ
set_option maxRecDepth 100000 in
theorem e_m_testsMeant_22 (d : Nat) (σ : ga_S) (v1 s0 : Int) : m_testsMeant_22 d σ v1 s0 = ga_ck v1 1700 ((c_m_need d σ s0 9 (σ fM_tFirst 0 v1)).bind fun q1 =>
      (c_m_testMeant d q1.2 v1 (w32 ((q1.2 fM_tests 0 0) + v1)) 0).bind fun q2 =>
        m_testsMeant_2 d q2.2 (w32 (v1 + 1))) :=
  ga_blk_eq am_G (am_run d) mt_m_testsMeant 16 22 [(0, 12, 0), (1, 0, v1)] [(0, s0), (12, 0)] σ
set_option maxRecDepth 100000 in
theorem e_m_actings (d : Nat) (σ : ga_S) (a1 a2 : Int) : c_m_actings (d + 1) σ a1 a2 = ga_ck a1 2600 (ga_ck a1 2600 ((c_m_means d σ (σ fM_runFrom 0 a1) (σ fM_runSize 0 a1) 11).bind fun q1 =>
        if q1.1 = (-1) then
          m_actings_64 d q1.2 a2 (σ fM_runFrom 0 a1) (σ fM_runSize 0 a1) 0
        else
          if a2 = 0 then
            m_actings_50 d q1.2 a2 (σ fM_runFrom 0 a1) (σ fM_runSize 0 a1) 0 q1.1
          else
            ga_ck q1.1 12 (if (q1.2 fM_actionKind 0 q1.1) = (-1) then
                m_actings_50 d q1.2 a2 (σ fM_runFrom 0 a1) (σ fM_runSize 0 a1) 0 q1.1
              else
                m_actings_64 d q1.2 a2 (σ fM_runFrom 0 a1) (σ fM_runSize 0 a1) 0))) :=
  ga_blk_eq am_G (am_run d) mt_m_actings 29 0 [(0, 12, 0), (1, 0, a1), (2, 0, a2)] [] σ
set_option maxRecDepth 100000 in
theorem e_m_actings_64 (d : Nat) (σ : ga_S) (v2 v3 v4 v5 : Int) : m_actings_64 d σ v2 v3 v4 v5 = m_actings_67 d σ v2 v3 v4 v5 1 :=
  ga_blk_eq am_G (am_run d) mt_m_actings 2 64 [(0, 12, 0), (2, 0, v2), (3, 0, v3), (4, 0, v4), (5, 0, v5)] [] σ
set_option maxRecDepth 100000 in
theorem e_m_actings_50 (d : Nat) (σ : ga_S) (v2 v3 v4 v5 v6 : Int) : m_actings_50 d σ v2 v3 v4 v5 v6 = m_actings_64 d (ga_up (ga_up σ fM_tried 0 0 v6) fM_triedObject 0 0 (-1)) v2 v3 v4 (w32 (v5 + 1)) :=
  ga_blk_eq am_G (am_run d) mt_m_actings 7 50 [(0, 12, 0), (2, 0, v2), (3, 0, v3), (4, 0, v4), (5, 0, v5), (6, 0, v6)] [] σ
set_option maxRecDepth 100000 in
theorem e_m_actings_67 (d : Nat) (σ : ga_S) (v2 v3 v4 v5 v7 : Int) : m_actings_67 d σ v2 v3 v4 v5 v7 = if v7 < v4 then
    if 3 < v7 then
      some (v5, σ)
    else
      (c_m_means d σ v3 v7 11).bind fun q2 =>
        (c_m_means d q2.2 (w32 (v3 + v7)) (w32 (v4 - v7)) 4).bind fun q3 =>
          if q2.1 = (-1) then
            m_actings_193 d q3.2 v2 v3 v4 v5 v7
          else
            if q3.1 = (-1) then
              m_actings_193 d q3.2 v2 v3 v4 v5 v7
            else
              ga_ck q2.1 12 (if (q3.2 fM_actionKind 0 q2.1) < 0 then
                  m_actings_193 d q3.2 v2 v3 v4 v5 v7
                else
                  if v2 = 0 then
                    ga_ck q3.1 24 (ga_ck q2.1 12 ((c_m_isBelow d q3.2 (q3.2 fM_kindOf 0 q3.1) (q3.2 fM_actionKind 0 q2.1)).bind fun q4 =>
                          if q4.1 = 0 then
                            m_actings_193 d q4.2 v2 v3 v4 v5 v7
                          else
                            m_actings_154 d q4.2 v2 v3 v4 v5 q2.1 v7 q3.1))
                  else
                    m_actings_154 d q3.2 v2 v3 v4 v5 q2.1 v7 q3.1)
  else
    some (v5, σ) :=
  ga_blk_eq am_G (am_run d) mt_m_actings 46 67 [(0, 12, 0), (2, 0, v2), (3, 0, v3), (4, 0, v4), (5, 0, v5), (7, 0, v7)] [] σ
set_option maxRecDepth 100000 in
theorem e_m_actings_193 (d : Nat) (σ : ga_S) (v2 v3 v4 v5 v7 : Int) : m_actings_193 d σ v2 v3 v4 v5 v7 = m_actings_67 d σ v2 v3 v4 v5 (w32 (v7 + 1)) :=
  ga_blk_eq am_G (am_run d) mt_m_actings 2 193 [(0, 12, 0), (2, 0, v2), (3, 0, v3), (4, 0, v4), (5, 0, v5), (7, 0, v7)] [] σ
set_option maxRecDepth 100000 in
theorem e_m_actings_154 (d : Nat) (σ : ga_S) (v2 v3 v4 v5 v6 v7 v8 : Int) : m_actings_154 d σ v2 v3 v4 v5 v6 v7 v8 = if v5 = 0 then
    m_actings_169 d σ v2 v3 v4 v5 v7 v8 v6
  else
    m_actings_169 d σ v2 v3 v4 v5 v7 v8 (σ fM_tried 0 0) :=
  ga_blk_eq am_G (am_run d) mt_m_actings 5 154 [(0, 12, 0), (2, 0, v2), (3, 0, v3), (4, 0, v4), (5, 0, v5), (6, 0, v6), (7, 0, v7), (8, 0, v8)] [] σ
set_option maxRecDepth 100000 in
theorem e_m_actings_169 (d : Nat) (σ : ga_S) (v2 v3 v4 v5 v7 v8 s0 : Int) : m_actings_169 d σ v2 v3 v4 v5 v7 v8 s0 = if v5 = 0 then
    m_actings_187 d (ga_up σ fM_tried 0 0 s0) v2 v3 v4 v5 v7 v8
  else
    m_actings_187 d (ga_up σ fM_tried 0 0 s0) v2 v3 v4 v5 v7 (σ fM_triedObject 0 0) :=
  ga_blk_eq am_G (am_run d) mt_m_actings 6 169 [(0, 12, 0), (2, 0, v2), (3, 0, v3), (4, 0, v4), (5, 0, v5), (7, 0, v7), (8, 0, v8)] [(0, s0), (12, 0)] σ
set_option maxRecDepth 100000 in
theorem e_m_actings_187 (d : Nat) (σ : ga_S) (v2 v3 v4 v5 v7 s0 : Int) : m_actings_187 d σ v2 v3 v4 v5 v7 s0 = m_actings_193 d (ga_up σ fM_triedObject 0 0 s0) v2 v3 v4 (w32 (v5 + 1)) v7 :=
  ga_blk_eq am_G (am_run d) mt_m_actings 2 187 [(0, 12, 0), (2, 0, v2), (3, 0, v3), (4, 0, v4), (5, 0, v5), (7, 0, v7)] [(0, s0), (12, 0)] σ
set_option maxRecDepth 100000 in
theorem e_m_phraseMeant (d : Nat) (σ : ga_S) (a1 a2 a3 : Int) : c_m_phraseMeant (d + 1) σ a1 a2 a3 = ga_ck a1 1700 (ga_ck a1 1700 (ga_ck a3 2000 (ga_ck a3 2000 (ga_ck a1 1700 (if (σ fM_pWhat 0 a1) = 0 then
              ga_ck (σ fM_pTest 0 a1) 1700 (ga_ck (σ fM_tWhat 0 (σ fM_pTest 0 a1)) 5002 (ga_ck a2 2400 (ga_ck (σ fM_tWhat 0 (σ fM_pTest 0 a1)) 5002 (ga_ck a2 2400 (ga_ck (σ fM_tWhat 0 (σ fM_pTest 0 a1)) 5002 (ga_ck (σ fM_tWhat 0 (σ fM_pTest 0 a1)) 5002 ((c_m_says d (ga_up (ga_up (ga_up (ga_up σ fM_qPhrase 0 a3 (σ fM_pWhat 0 a1)) fM_qTest 0 a3 a2) fM_qWhat 0 a2 (w32 ((σ fM_place 0 (σ fM_tWhat 0 (σ fM_pTest 0 a1))) + 1))) fM_qLong 0 a2 (σ fM_length 0 (σ fM_tWhat 0 (σ fM_pTest 0 a1)))) (w32 ((σ fM_place 0 (σ fM_tWhat 0 (σ fM_pTest 0 a1))) + 1)) (σ fM_length 0 (σ fM_tWhat 0 (σ fM_pTest 0 a1))) (-1)).bind fun q7 =>
                              (c_m_need d q7.2 q7.1 8 (σ fM_tWhat 0 (σ fM_pTest 0 a1))).bind fun q8 =>
                                some (0, q8.2))))))))
            else
              ga_ck a1 1700 (if (σ fM_pWhat 0 a1) = 1 then
                  (c_m_testMeant d (ga_up (ga_up σ fM_qPhrase 0 a3 (σ fM_pWhat 0 a1)) fM_qTest 0 a3 a2) (σ fM_pTest 0 a1) a2 1).bind fun q6 =>
                    some (0, q6.2)
                else
                  ga_ck a1 1700 (if (σ fM_pWhat 0 a1) = 2 then
                      ga_ck (σ fM_pTest 0 a1) 1700 (ga_ck (σ fM_pTest 0 a1) 1700 ((c_m_meant d (ga_up (ga_up σ fM_qPhrase 0 a3 (σ fM_pWhat 0 a1)) fM_qTest 0 a3 a2) (σ fM_tThing 0 (σ fM_pTest 0 a1)) (σ fM_tThingRun 0 (σ fM_pTest 0 a1))).bind fun q3 =>
                            ga_ck a2 2400 (ga_ck a2 2400 (if ((ga_up q3.2 fM_qThing 0 a2 q3.1) fM_qThing 0 a2) = (-9) then
                                  m_phraseMeant_190 d (ga_up q3.2 fM_qThing 0 a2 q3.1) a2 (σ fM_pTest 0 a1)
                                else
                                  ga_ck a2 2400 ((c_m_kindOfThing d (ga_up q3.2 fM_qThing 0 a2 q3.1) ((ga_up q3.2 fM_qThing 0 a2 q3.1) fM_qThing 0 a2)).bind fun q4 =>
                                      (c_m_isBelow d q4.2 q4.1 0).bind fun q5 =>
                                        if q5.1 = 0 then
                                          m_phraseMeant_195 d q5.2 a2 (σ fM_pTest 0 a1) 0
                                        else
                                          m_phraseMeant_190 d q5.2 a2 (σ fM_pTest 0 a1))))))
                    else
                      ga_ck a1 1700 (if (σ fM_pWhat 0 a1) = 3 then
                          m_phraseMeant_257 d (ga_up (ga_up σ fM_qPhrase 0 a3 (σ fM_pWhat 0 a1)) fM_qTest 0 a3 a2) a2 (σ fM_pTest 0 a1)
                        else
                          ga_ck a1 1700 (if (σ fM_pWhat 0 a1) = 4 then
                              m_phraseMeant_257 d (ga_up (ga_up σ fM_qPhrase 0 a3 (σ fM_pWhat 0 a1)) fM_qTest 0 a3 a2) a2 (σ fM_pTest 0 a1)
                            else
                              ga_ck a1 1700 (if (σ fM_pWhat 0 a1) = 5 then
                                  ga_ck (σ fM_pTest 0 a1) 1700 (ga_ck (σ fM_pTest 0 a1) 1700 (if (σ fM_tNot 0 (σ fM_pTest 0 a1)) = 0 then
                                        (c_m_actings d (ga_up (ga_up σ fM_qPhrase 0 a3 (σ fM_pWhat 0 a1)) fM_qTest 0 a3 a2) (σ fM_tRun 0 (σ fM_pTest 0 a1)) 1).bind fun q1 =>
                                          if 0 < q1.1 then
                                            m_phraseMeant_464 d q1.2 a2 (σ fM_pTest 0 a1) (σ fM_tRun 0 (σ fM_pTest 0 a1)) q1.1 1
                                          else
                                            m_phraseMeant_464 d q1.2 a2 (σ fM_pTest 0 a1) (σ fM_tRun 0 (σ fM_pTest 0 a1)) q1.1 0
                                      else
                                        (c_m_meansRun d (ga_up (ga_up σ fM_qPhrase 0 a3 (σ fM_pWhat 0 a1)) fM_qTest 0 a3 a2) (σ fM_tRun 0 (σ fM_pTest 0 a1)) 11).bind fun q2 =>
                                          if q2.1 = (-1) then
                                            m_phraseMeant_397 d q2.2 a2 (σ fM_pTest 0 a1) (σ fM_tRun 0 (σ fM_pTest 0 a1)) q2.1
                                          else
                                            ga_ck q2.1 12 (if (q2.2 fM_actionKind 0 q2.1) < 0 then
                                                m_phraseMeant_397 d q2.2 a2 (σ fM_pTest 0 a1) (σ fM_tRun 0 (σ fM_pTest 0 a1)) q2.1
                                              else
                                                m_phraseMeant_398 d q2.2 a2 (σ fM_pTest 0 a1) (σ fM_tRun 0 (σ fM_pTest 0 a1)) q2.1 1)))
                                else
                                  some (0, (ga_up (ga_up σ fM_qPhrase 0 a3 (σ fM_pWhat 0 a1)) fM_qTest 0 a3 a2)))))))))))) :=
  ga_blk_eq am_G (am_run d) mt_m_phraseMeant 79 0 [(0, 12, 0), (1, 0, a1), (2, 0, a2), (3, 0, a3)] [] σ
set_option maxRecDepth 100000 in
theorem e_m_phraseMeant_257 (d : Nat) (σ : ga_S) (v2 v4 : Int) : m_phraseMeant_257 d σ v2 v4 = ga_ck v4 1700 (ga_ck v4 1700 ((c_m_meant d σ (σ fM_tThing 0 v4) (σ fM_tThingRun 0 v4)).bind fun q9 =>
        ga_ck v2 2400 (ga_ck v4 1700 (ga_ck v2 2400 ((c_m_propertyMeant d (ga_up q9.2 fM_qThing 0 v2 q9.1) (q9.2 fM_tRun 0 v4) ((ga_up q9.2 fM_qThing 0 v2 q9.1) fM_qThing 0 v2)).bind fun q10 =>
                ga_ck v2 2400 (ga_ck v4 1700 ((c_m_numberMeant d (ga_up q10.2 fM_qProperty 0 v2 q10.1) (q10.2 fM_tRun 0 v4)).bind fun q11 =>
                      ga_ck v4 1700 (ga_ck (q11.2 fM_tWhat 0 v4) 5002 (ga_ck v2 2400 (some (0, (ga_up q11.2 fM_qWhat 0 v2 (w32 (q11.2 fM_word 0 (q11.2 fM_tWhat 0 v4))))))))))))))) :=
  ga_blk_eq am_G (am_run d) mt_m_phraseMeant 48 257 [(0, 12, 0), (2, 0, v2), (4, 0, v4)] [] σ
set_option maxRecDepth 100000 in
theorem e_m_phraseMeant_464 (d : Nat) (σ : ga_S) (v2 v4 v5 v6 s0 : Int) : m_phraseMeant_464 d σ v2 v4 v5 v6 s0 = ga_ck v5 2600 ((c_m_need d σ s0 4 (σ fM_runFrom 0 v5)).bind fun q12 =>
      if v6 < 2 then
        m_phraseMeant_487 d q12.2 v2 v4 v5 v6 1
      else
        m_phraseMeant_487 d q12.2 v2 v4 v5 v6 0) :=
  ga_blk_eq am_G (am_run d) mt_m_phraseMeant 12 464 [(0, 12, 0), (2, 0, v2), (4, 0, v4), (5, 0, v5), (6, 0, v6)] [(0, s0), (12, 0)] σ
set_option maxRecDepth 100000 in
theorem e_m_phraseMeant_397 (d : Nat) (σ : ga_S) (v2 v4 v5 v6 : Int) : m_phraseMeant_397 d σ v2 v4 v5 v6 = m_phraseMeant_398 d σ v2 v4 v5 v6 0 :=
  ga_blk_eq am_G (am_run d) mt_m_phraseMeant 1 397 [(0, 12, 0), (2, 0, v2), (4, 0, v4), (5, 0, v5), (6, 0, v6)] [(12, 0)] σ
set_option maxRecDepth 100000 in
theorem e_m_phraseMeant_398 (d : Nat) (σ : ga_S) (v2 v4 v5 v6 s0 : Int) : m_phraseMeant_398 d σ v2 v4 v5 v6 s0 = ga_ck v5 2600 ((c_m_need d σ s0 4 (σ fM_runFrom 0 v5)).bind fun q13 =>
      ga_ck v2 2400 (ga_ck v4 1700 (ga_ck v4 1700 ((c_m_meant d (ga_up q13.2 fM_qProperty 0 v2 v6) (q13.2 fM_tThing 0 v4) (q13.2 fM_tThingRun 0 v4)).bind fun q14 =>
              ga_ck v2 2400 (m_phraseMeant_537 d (ga_up q14.2 fM_qThing 0 v2 q14.1) v2 v4))))) :=
  ga_blk_eq am_G (am_run d) mt_m_phraseMeant 26 398 [(0, 12, 0), (2, 0, v2), (4, 0, v4), (5, 0, v5), (6, 0, v6)] [(0, s0), (12, 0)] σ
set_option maxRecDepth 100000 in
theorem e_m_phraseMeant_190 (d : Nat) (σ : ga_S) (v2 v4 : Int) : m_phraseMeant_190 d σ v2 v4 = m_phraseMeant_195 d σ v2 v4 1 :=
  ga_blk_eq am_G (am_run d) mt_m_phraseMeant 2 190 [(0, 12, 0), (2, 0, v2), (4, 0, v4)] [(12, 0)] σ
set_option maxRecDepth 100000 in
theorem e_m_phraseMeant_195 (d : Nat) (σ : ga_S) (v2 v4 s0 : Int) : m_phraseMeant_195 d σ v2 v4 s0 = ga_ck v4 1700 ((c_m_need d σ s0 4 (w32 (Int.tmod (σ fM_tThing 0 v4) 10000))).bind fun q15 =>
      ga_ck v4 1700 (ga_ck v4 1700 ((c_m_meant d q15.2 (q15.2 fM_tOther 0 v4) (q15.2 fM_tOtherRun 0 v4)).bind fun q16 =>
            ga_ck v2 2400 (some (0, (ga_up q16.2 fM_qOther 0 v2 q16.1)))))) :=
  ga_blk_eq am_G (am_run d) mt_m_phraseMeant 24 195 [(0, 12, 0), (2, 0, v2), (4, 0, v4)] [(0, s0), (12, 0)] σ
set_option maxRecDepth 100000 in
theorem e_m_phraseMeant_487 (d : Nat) (σ : ga_S) (v2 v4 v5 v6 s0 : Int) : m_phraseMeant_487 d σ v2 v4 v5 v6 s0 = ga_ck v5 2600 ((c_m_need d σ s0 7 (σ fM_runFrom 0 v5)).bind fun q17 =>
      if 0 < v6 then
        m_phraseMeant_517 d q17.2 v2 v4 v6 (q17.2 fM_tried 0 0) v2
      else
        m_phraseMeant_517 d q17.2 v2 v4 v6 0 v2) :=
  ga_blk_eq am_G (am_run d) mt_m_phraseMeant 14 487 [(0, 12, 0), (2, 0, v2), (4, 0, v4), (5, 0, v5), (6, 0, v6)] [(0, s0), (12, 0)] σ
set_option maxRecDepth 100000 in
theorem e_m_phraseMeant_537 (d : Nat) (σ : ga_S) (v2 v4 : Int) : m_phraseMeant_537 d σ v2 v4 = ga_ck v2 2400 (if (σ fM_qThing 0 v2) = (-1) then
      ga_ck v4 1700 (if (σ fM_tNot 0 v4) = 0 then
          m_phraseMeant_567 d σ 1 v2
        else
          m_phraseMeant_566 d σ v2)
    else
      m_phraseMeant_566 d σ v2) :=
  ga_blk_eq am_G (am_run d) mt_m_phraseMeant 16 537 [(0, 12, 0), (2, 0, v2), (4, 0, v4)] [] σ
set_option maxRecDepth 100000 in
theorem e_m_phraseMeant_517 (d : Nat) (σ : ga_S) (v2 v4 v6 s0 s1 : Int) : m_phraseMeant_517 d σ v2 v4 v6 s0 s1 = ga_ck s1 2400 (if 0 < v6 then
      m_phraseMeant_536 d (ga_up σ fM_qProperty 0 s1 s0) v2 v4 (σ fM_triedObject 0 0) v2
    else
      m_phraseMeant_536 d (ga_up σ fM_qProperty 0 s1 s0) v2 v4 (-1) v2) :=
  ga_blk_eq am_G (am_run d) mt_m_phraseMeant 9 517 [(0, 12, 0), (2, 0, v2), (4, 0, v4), (6, 0, v6)] [(0, s0), (0, s1), (158, 0)] σ
set_option maxRecDepth 100000 in
theorem e_m_phraseMeant_566 (d : Nat) (σ : ga_S) (s0 : Int) : m_phraseMeant_566 d σ s0 = m_phraseMeant_567 d σ 0 s0 :=
  ga_blk_eq am_G (am_run d) mt_m_phraseMeant 1 566 [] [(0, s0), (156, 0)] σ
set_option maxRecDepth 100000 in
theorem e_m_phraseMeant_567 (d : Nat) (σ : ga_S) (s0 s1 : Int) : m_phraseMeant_567 d σ s0 s1 = ga_ck s1 2400 (ga_01 s0 (some (0, (ga_up σ fM_qNot 0 s1 s0)))) :=
  ga_blk_eq am_G (am_run d) mt_m_phraseMeant 2 567 [] [(0, s0), (0, s1), (156, 0)] σ
set_option maxRecDepth 100000 in
theorem e_m_phraseMeant_536 (d : Nat) (σ : ga_S) (v2 v4 s0 s1 : Int) : m_phraseMeant_536 d σ v2 v4 s0 s1 = ga_ck s1 2400 (m_phraseMeant_537 d (ga_up σ fM_qThing 0 s1 s0) v2 v4) :=
  ga_blk_eq am_G (am_run d) mt_m_phraseMeant 1 536 [(0, 12, 0), (2, 0, v2), (4, 0, v4)] [(0, s0), (0, s1), (157, 0)] σ
set_option maxRecDepth 100000 in
theorem e_m_actingMeant (d : Nat) (σ : ga_S) (a1 : Int) : c_m_actingMeant (d + 1) σ a1 = ga_ck a1 24 (ga_ck a1 24 (ga_ck a1 24 (ga_ck a1 24 (if (σ fM_sort 0 0) = 6 then
            some (0, (ga_up (ga_up (ga_up (ga_up (ga_up σ fM_ruleAction 0 a1 (-1)) fM_ruleObject 0 a1 (-1)) fM_ruleKind 0 a1 (-1)) fM_ruleAdjectives 0 a1 0) fM_nounKind 0 0 (-1)))
          else
            if (σ fM_actingOther 0 0) = (-1) then
              (c_m_actings d (ga_up (ga_up (ga_up (ga_up (ga_up σ fM_ruleAction 0 a1 (-1)) fM_ruleObject 0 a1 (-1)) fM_ruleKind 0 a1 (-1)) fM_ruleAdjectives 0 a1 0) fM_nounKind 0 0 (-1)) (σ fM_actingRun 0 0) 0).bind fun q2 =>
                if 0 < q2.1 then
                  m_actingMeant_73 d q2.2 a1 (σ fM_actingRun 0 0) q2.1 1
                else
                  m_actingMeant_73 d q2.2 a1 (σ fM_actingRun 0 0) q2.1 0
            else
              (c_m_meansRun d (ga_up (ga_up (ga_up (ga_up (ga_up σ fM_ruleAction 0 a1 (-1)) fM_ruleObject 0 a1 (-1)) fM_ruleKind 0 a1 (-1)) fM_ruleAdjectives 0 a1 0) fM_nounKind 0 0 (-1)) (σ fM_actingRun 0 0) 11).bind fun q1 =>
                if q1.1 = (-1) then
                  m_actingMeant_192 d q1.2 a1 (σ fM_actingRun 0 0) q1.1 (q1.2 fM_actingOther 0 0) 0
                else
                  m_actingMeant_192 d q1.2 a1 (σ fM_actingRun 0 0) q1.1 (q1.2 fM_actingOther 0 0) 1)))) :=
  ga_blk_eq am_G (am_run d) mt_m_actingMeant 48 0 [(0, 12, 0), (1, 0, a1)] [] σ
set_option maxRecDepth 100000 in
theorem e_m_actingMeant_192 (d : Nat) (σ : ga_S) (v1 v2 v3 v4 s0 : Int) : m_actingMeant_192 d σ v1 v2 v3 v4 s0 = ga_ck v2 2600 ((c_m_need d σ s0 4 (σ fM_runFrom 0 v2)).bind fun q3 =>
      if v3 = (-1) then
        some (0, q3.2)
      else
        ga_ck v3 12 (if (q3.2 fM_actionKind 0 v3) < 0 then
            m_actingMeant_223 d q3.2 v1 v3 v4 0
          else
            m_actingMeant_223 d q3.2 v1 v3 v4 1)) :=
  ga_blk_eq am_G (am_run d) mt_m_actingMeant 17 192 [(0, 12, 0), (1, 0, v1), (2, 0, v2), (3, 0, v3), (4, 0, v4)] [(0, s0), (12, 0)] σ
set_option maxRecDepth 100000 in
theorem e_m_actingMeant_73 (d : Nat) (σ : ga_S) (v1 v2 v3 s0 : Int) : m_actingMeant_73 d σ v1 v2 v3 s0 = ga_ck v2 2600 ((c_m_need d σ s0 4 (σ fM_runFrom 0 v2)).bind fun q4 =>
      if v3 < 2 then
        m_actingMeant_94 d q4.2 v1 v2 v3 1
      else
        m_actingMeant_94 d q4.2 v1 v2 v3 0) :=
  ga_blk_eq am_G (am_run d) mt_m_actingMeant 12 73 [(0, 12, 0), (1, 0, v1), (2, 0, v2), (3, 0, v3)] [(0, s0), (12, 0)] σ
set_option maxRecDepth 100000 in
theorem e_m_actingMeant_223 (d : Nat) (σ : ga_S) (v1 v3 v4 s0 : Int) : m_actingMeant_223 d σ v1 v3 v4 s0 = ga_ck v4 2600 ((c_m_need d σ s0 4 (σ fM_runFrom 0 v4)).bind fun q5 =>
      ga_ck v3 12 (if (q5.2 fM_actionKind 0 v3) < 0 then
          some (0, q5.2)
        else
          (c_m_meansRun d q5.2 v4 4).bind fun q6 =>
            if q6.1 = (-1) then
              m_actingMeant_284 d q6.2 v1 v3 v4
            else
              ga_ck q6.1 24 (ga_ck v3 12 ((c_m_isBelow d q6.2 (q6.2 fM_kindOf 0 q6.1) (q6.2 fM_actionKind 0 v3)).bind fun q7 =>
                    if q7.1 = 0 then
                      m_actingMeant_284 d q7.2 v1 v3 v4
                    else
                      m_actingMeant_285 d q7.2 v1 v3 v4 q6.1)))) :=
  ga_blk_eq am_G (am_run d) mt_m_actingMeant 32 223 [(0, 12, 0), (1, 0, v1), (3, 0, v3), (4, 0, v4)] [(0, s0), (12, 0)] σ
set_option maxRecDepth 100000 in
theorem e_m_actingMeant_94 (d : Nat) (σ : ga_S) (v1 v2 v3 s0 : Int) : m_actingMeant_94 d σ v1 v2 v3 s0 = ga_ck v2 2600 ((c_m_need d σ s0 7 (σ fM_runFrom 0 v2)).bind fun q8 =>
      if 0 < v3 then
        ga_ck v1 24 (ga_ck v1 24 (if (q8.2 fM_triedObject 0 0) = (-1) then
              ga_ck (q8.2 fM_tried 0 0) 12 ((p_max d (ga_up (ga_up q8.2 fM_ruleAction 0 v1 (q8.2 fM_tried 0 0)) fM_ruleObject 0 v1 (q8.2 fM_triedObject 0 0)) (-1) (q8.2 fM_actionKind 0 (q8.2 fM_tried 0 0))).bind fun q9 =>
                  m_actingMeant_163 d q9.2 q9.1)
            else
              ga_ck (q8.2 fM_triedObject 0 0) 24 (m_actingMeant_163 d (ga_up (ga_up q8.2 fM_ruleAction 0 v1 (q8.2 fM_tried 0 0)) fM_ruleObject 0 v1 (q8.2 fM_triedObject 0 0)) (q8.2 fM_kindOf 0 (q8.2 fM_triedObject 0 0)))))
      else
        some (0, q8.2)) :=
  ga_blk_eq am_G (am_run d) mt_m_actingMeant 32 94 [(0, 12, 0), (1, 0, v1), (2, 0, v2), (3, 0, v3)] [(0, s0), (12, 0)] σ
set_option maxRecDepth 100000 in
theorem e_m_actingMeant_284 (d : Nat) (σ : ga_S) (v1 v3 v4 : Int) : m_actingMeant_284 d σ v1 v3 v4 = m_actingMeant_285 d σ v1 v3 v4 (-1) :=
  ga_blk_eq am_G (am_run d) mt_m_actingMeant 1 284 [(0, 12, 0), (1, 0, v1), (3, 0, v3), (4, 0, v4)] [] σ
set_option maxRecDepth 100000 in
theorem e_m_actingMeant_285 (d : Nat) (σ : ga_S) (v1 v3 v4 s0 : Int) : m_actingMeant_285 d σ v1 v3 v4 s0 = ga_ck v4 2600 (ga_ck v4 2600 (ga_ck v3 12 ((c_m_describe d (ga_up σ fM_readings 0 0 0) (σ fM_runFrom 0 v4) (σ fM_runSize 0 v4) 0 1 (σ fM_actionKind 0 v3)).bind fun q10 =>
          if 0 < (q10.2 fM_readings 0 0) then
            m_actingMeant_330 d q10.2 v1 v3 v4 s0 1
          else
            m_actingMeant_330 d q10.2 v1 v3 v4 s0 0))) :=
  ga_blk_eq am_G (am_run d) mt_m_actingMeant 25 285 [(0, 12, 0), (1, 0, v1), (3, 0, v3), (4, 0, v4)] [(0, s0)] σ
set_option maxRecDepth 100000 in
theorem e_m_actingMeant_163 (d : Nat) (σ : ga_S) (s0 : Int) : m_actingMeant_163 d σ s0 = some (0, (ga_up σ fM_nounKind 0 0 s0)) :=
  ga_blk_eq am_G (am_run d) mt_m_actingMeant 2 163 [] [(0, s0), (12, 0)] σ
set_option maxRecDepth 100000 in
theorem e_m_actingMeant_330 (d : Nat) (σ : ga_S) (v1 v3 v4 v5 s0 : Int) : m_actingMeant_330 d σ v1 v3 v4 v5 s0 = if v5 = (-1) then
    m_actingMeant_348 d σ v1 v3 v4 v5 s0 0 (σ fM_readings 0 0)
  else
    m_actingMeant_348 d σ v1 v3 v4 v5 s0 1 (σ fM_readings 0 0) :=
  ga_blk_eq am_G (am_run d) mt_m_actingMeant 9 330 [(0, 12, 0), (1, 0, v1), (3, 0, v3), (4, 0, v4), (5, 0, v5)] [(0, s0)] σ
set_option maxRecDepth 100000 in
theorem e_m_actingMeant_348 (d : Nat) (σ : ga_S) (v1 v3 v4 v5 v6 s0 s1 : Int) : m_actingMeant_348 d σ v1 v3 v4 v5 v6 s0 s1 = ga_ck v4 2600 ((c_m_oneReading d (ga_up σ fM_readings 0 0 (w32 (s1 + s0))) (σ fM_runFrom 0 v4)).bind fun q11 =>
      ga_ck v1 24 (ga_ck v1 24 (if v5 = (-1) then
            if v6 = 0 then
              m_actingMeant_408 d (ga_up (ga_up q11.2 fM_ruleAction 0 v1 v3) fM_ruleObject 0 v1 v5) v1 v5 v6 (-1)
            else
              m_actingMeant_408 d (ga_up (ga_up q11.2 fM_ruleAction 0 v1 v3) fM_ruleObject 0 v1 v5) v1 v5 v6 (q11.2 fM_readKind 0 0)
          else
            ga_ck v5 24 (m_actingMeant_408 d (ga_up (ga_up q11.2 fM_ruleAction 0 v1 v3) fM_ruleObject 0 v1 v5) v1 v5 v6 (q11.2 fM_kindOf 0 v5))))) :=
  ga_blk_eq am_G (am_run d) mt_m_actingMeant 27 348 [(0, 12, 0), (1, 0, v1), (3, 0, v3), (4, 0, v4), (5, 0, v5), (6, 0, v6)] [(0, s0), (0, s1), (12, 0)] σ
set_option maxRecDepth 100000 in
theorem e_m_actingMeant_408 (d : Nat) (σ : ga_S) (v1 v5 v6 s0 : Int) : m_actingMeant_408 d σ v1 v5 v6 s0 = if v6 = 0 then
    some (0, (ga_up σ fM_nounKind 0 0 s0))
  else
    if v5 = (-1) then
      ga_ck v1 24 (ga_ck v1 24 ((p_cpy_150_166 d (ga_up (ga_up (ga_up σ fM_nounKind 0 0 s0) fM_ruleKind 0 v1 (σ fM_readKind 0 0)) fM_ruleAdjectives 0 v1 (σ fM_readCount 0 0)) 0 (w32 (6 * v1)) 6).bind fun q12 =>
            some (0, q12.2)))
    else
      some (0, (ga_up σ fM_nounKind 0 0 s0)) :=
  ga_blk_eq am_G (am_run d) mt_m_actingMeant 29 408 [(0, 12, 0), (1, 0, v1), (5, 0, v5), (6, 0, v6)] [(0, s0), (12, 0)] σ
set_option maxRecDepth 100000 in
theorem e_m_ruleMeant (d : Nat) (σ : ga_S) (a1 : Int) : c_m_ruleMeant (d + 1) σ a1 = if (σ fM_rules 0 0) < 24 then
    m_ruleMeant_15 d σ a1 1
  else
    m_ruleMeant_15 d σ a1 0 :=
  ga_blk_eq am_G (am_run d) mt_m_ruleMeant 7 0 [(0, 12, 0), (1, 0, a1)] [] σ
set_option maxRecDepth 100000 in
theorem e_m_ruleMeant_15 (d : Nat) (σ : ga_S) (v1 s0 : Int) : m_ruleMeant_15 d σ v1 s0 = (c_m_need d σ s0 9 v1).bind fun q1 =>
    (p_min d q1.2 (q1.2 fM_rules 0 0) 23).bind fun q2 =>
      (c_m_actingMeant d q2.2 q2.1).bind fun q3 =>
        (c_m_testsMeant d (ga_up q3.2 fM_itKind 0 0 (-1))).bind fun q4 =>
          m_ruleMeant_58 d q4.2 q2.1 (w32 ((q4.2 fM_tests 0 0) + (q4.2 fM_tShown 0 0))) 0 :=
  ga_blk_eq am_G (am_run d) mt_m_ruleMeant 24 15 [(0, 12, 0), (1, 0, v1)] [(0, s0), (12, 0)] σ
set_option maxRecDepth 100000 in
theorem e_m_ruleMeant_58 (d : Nat) (σ : ga_S) (v2 v3 v4 : Int) : m_ruleMeant_58 d σ v2 v3 v4 = if v4 < (σ fM_pCount 0 0) then
    if v4 < 8 then
      m_ruleMeant_80 d σ v2 v3 v4 1
    else
      m_ruleMeant_80 d σ v2 v3 v4 0
  else
    if (σ fM_bestFault 0 0) = 0 then
      if (σ fM_sort 0 0) = 3 then
        m_ruleMeant_164 d σ v2 v3 0 v2
      else
        if (σ fM_sort 0 0) = 5 then
          m_ruleMeant_164 d σ v2 v3 1 v2
        else
          if (σ fM_sort 0 0) = 4 then
            m_ruleMeant_164 d σ v2 v3 2 v2
          else
            m_ruleMeant_164 d σ v2 v3 3 v2
    else
      some (0, σ) :=
  ga_blk_eq am_G (am_run d) mt_m_ruleMeant 24 58 [(0, 12, 0), (2, 0, v2), (3, 0, v3), (4, 0, v4)] [] σ
set_option maxRecDepth 100000 in
theorem e_m_ruleMeant_164 (d : Nat) (σ : ga_S) (v2 v3 s0 s1 : Int) : m_ruleMeant_164 d σ v2 v3 s0 s1 = ga_ck s1 24 (ga_ck v2 24 (ga_ck v2 24 (ga_ck v2 24 (ga_ck v2 24 (some (0, (ga_up (ga_up (ga_up (ga_up (ga_up (ga_up (ga_up (ga_up σ fM_ruleSort 0 s1 s0) fM_ruleFrom 0 v2 (σ fM_tests 0 0)) fM_ruleTests 0 v2 (σ fM_tShown 0 0)) fM_rulePhrase 0 v2 (σ fM_phrases 0 0)) fM_rulePhrases 0 v2 (σ fM_pCount 0 0)) fM_tests 0 0 (w32 (v3 + (σ fM_pCount 0 0)))) fM_phrases 0 0 (w32 ((σ fM_phrases 0 0) + (σ fM_pCount 0 0)))) fM_rules 0 0 (w32 ((σ fM_rules 0 0) + 1))))))))) :=
  ga_blk_eq am_G (am_run d) mt_m_ruleMeant 45 164 [(0, 12, 0), (2, 0, v2), (3, 0, v3)] [(0, s0), (0, s1), (164, 0)] σ
set_option maxRecDepth 100000 in
theorem e_m_ruleMeant_80 (d : Nat) (σ : ga_S) (v2 v3 v4 s0 : Int) : m_ruleMeant_80 d σ v2 v3 v4 s0 = ga_ck v4 1700 ((c_m_need d σ s0 9 (σ fM_pFirst 0 v4)).bind fun q5 =>
      (c_m_phraseMeant d q5.2 v4 (w32 (v3 + v4)) (w32 ((q5.2 fM_phrases 0 0) + v4))).bind fun q6 =>
        m_ruleMeant_58 d q6.2 v2 v3 (w32 (v4 + 1))) :=
  ga_blk_eq am_G (am_run d) mt_m_ruleMeant 18 80 [(0, 12, 0), (2, 0, v2), (3, 0, v3), (4, 0, v4)] [(0, s0), (12, 0)] σ
set_option maxRecDepth 100000 in
theorem e_m_asked (d : Nat) (σ : ga_S) (a1 : Int) : c_m_asked (d + 1) σ a1 = if (σ fM_sort 0 0) = 0 then
    if (σ fM_described 0 0) = (-1) then
      m_asked_138 d (ga_up (ga_up (ga_up (ga_up σ fM_bestFault 0 0 0) fM_news 0 0 0) fM_itKind 0 0 (-1)) fM_nounKind 0 0 (-1)) 0
    else
      m_asked_138 d (ga_up (ga_up (ga_up (ga_up σ fM_bestFault 0 0 0) fM_news 0 0 0) fM_itKind 0 0 (-1)) fM_nounKind 0 0 (-1)) 1
  else
    if (σ fM_sort 0 0) = 1 then
      (c_m_askCommand d (ga_up (ga_up (ga_up (ga_up σ fM_bestFault 0 0 0) fM_news 0 0 0) fM_itKind 0 0 (-1)) fM_nounKind 0 0 (-1))).bind fun q31 =>
        some (0, q31.2)
    else
      if (σ fM_sort 0 0) = 2 then
        (c_m_kindOfRun d (ga_up (ga_up (ga_up (ga_up σ fM_bestFault 0 0 0) fM_news 0 0 0) fM_itKind 0 0 (-1)) fM_nounKind 0 0 (-1)) 0).bind fun q28 =>
          (c_m_mustBeNew d (ga_up q28.2 fM_itKind 0 0 q28.1) 1 (q28.2 fM_adjectives 0 0) 24).bind fun q29 =>
            (c_m_testsMeant d q29.2).bind fun q30 =>
              some (0, q30.2)
      else
        if (σ fM_sort 0 0) = 3 then
          (c_m_ruleMeant d (ga_up (ga_up (ga_up (ga_up σ fM_bestFault 0 0 0) fM_news 0 0 0) fM_itKind 0 0 (-1)) fM_nounKind 0 0 (-1)) a1).bind fun q27 =>
            some (0, q27.2)
        else
          if (σ fM_sort 0 0) = 4 then
            (c_m_ruleMeant d (ga_up (ga_up (ga_up (ga_up σ fM_bestFault 0 0 0) fM_news 0 0 0) fM_itKind 0 0 (-1)) fM_nounKind 0 0 (-1)) a1).bind fun q26 =>
              some (0, q26.2)
          else
            if (σ fM_sort 0 0) = 5 then
              (c_m_ruleMeant d (ga_up (ga_up (ga_up (ga_up σ fM_bestFault 0 0 0) fM_news 0 0 0) fM_itKind 0 0 (-1)) fM_nounKind 0 0 (-1)) a1).bind fun q25 =>
                some (0, q25.2)
            else
              if (σ fM_sort 0 0) = 6 then
                (c_m_ruleMeant d (ga_up (ga_up (ga_up (ga_up σ fM_bestFault 0 0 0) fM_news 0 0 0) fM_itKind 0 0 (-1)) fM_nounKind 0 0 (-1)) a1).bind fun q24 =>
                  some (0, q24.2)
              else
                if (σ fM_sort 0 0) = 7 then
                  (c_m_askVerb d (ga_up (ga_up (ga_up (ga_up σ fM_bestFault 0 0 0) fM_news 0 0 0) fM_itKind 0 0 (-1)) fM_nounKind 0 0 (-1))).bind fun q23 =>
                    some (0, q23.2)
                else
                  if (σ fM_sort 0 0) = 8 then
                    (c_m_kindOrPlural d (ga_up (ga_up (ga_up (ga_up σ fM_bestFault 0 0 0) fM_news 0 0 0) fM_itKind 0 0 (-1)) fM_nounKind 0 0 (-1)) 0).bind fun q21 =>
                      if q21.1 = (-1) then
                        (c_m_typeOrPlural d q21.2 0).bind fun q22 =>
                          if q22.1 = (-1) then
                            m_asked_214 d q22.2 0
                          else
                            m_asked_209 d q22.2
                      else
                        m_asked_209 d q21.2
                  else
                    if (σ fM_sort 0 0) = 9 then
                      (c_m_askProperty d (ga_up (ga_up (ga_up (ga_up σ fM_bestFault 0 0 0) fM_news 0 0 0) fM_itKind 0 0 (-1)) fM_nounKind 0 0 (-1))).bind fun q20 =>
                        some (0, q20.2)
                    else
                      if (σ fM_sort 0 0) = 10 then
                        (c_m_askKinds d (ga_up (ga_up (ga_up (ga_up σ fM_bestFault 0 0 0) fM_news 0 0 0) fM_itKind 0 0 (-1)) fM_nounKind 0 0 (-1))).bind fun q19 =>
                          some (0, q19.2)
                      else
                        if (σ fM_sort 0 0) = 11 then
                          (c_m_askKinds d (ga_up (ga_up (ga_up (ga_up σ fM_bestFault 0 0 0) fM_news 0 0 0) fM_itKind 0 0 (-1)) fM_nounKind 0 0 (-1))).bind fun q18 =>
                            some (0, q18.2)
                        else
                          if (σ fM_sort 0 0) = 12 then
                            (c_m_objectsOrNew d (ga_up (ga_up (ga_up (ga_up σ fM_bestFault 0 0 0) fM_news 0 0 0) fM_itKind 0 0 (-1)) fM_nounKind 0 0 (-1))).bind fun q14 =>
                              ga_ck (q14.2 fM_what 0 0) 2600 (ga_ck (q14.2 fM_what 0 0) 2600 ((c_m_describe d (ga_up q14.2 fM_readings 0 0 0) (q14.2 fM_runFrom 0 (q14.2 fM_what 0 0)) (q14.2 fM_runSize 0 (q14.2 fM_what 0 0)) 0 0 (-1)).bind fun q15 =>
                                    ga_ck (q15.2 fM_what 0 0) 2600 ((c_m_oneReading d q15.2 (q15.2 fM_runFrom 0 (q15.2 fM_what 0 0))).bind fun q16 =>
                                        (c_m_askPlace d q16.2).bind fun q17 =>
                                          some (0, q17.2))))
                          else
                            if (σ fM_sort 0 0) = 13 then
                              (c_m_objectsOrNew d (ga_up (ga_up (ga_up (ga_up σ fM_bestFault 0 0 0) fM_news 0 0 0) fM_itKind 0 0 (-1)) fM_nounKind 0 0 (-1))).bind fun q12 =>
                                (c_m_askPlace d q12.2).bind fun q13 =>
                                  some (0, q13.2)
                            else
                              if (σ fM_sort 0 0) = 14 then
                                (c_m_askWay d (ga_up (ga_up (ga_up (ga_up σ fM_bestFault 0 0 0) fM_news 0 0 0) fM_itKind 0 0 (-1)) fM_nounKind 0 0 (-1))).bind fun q11 =>
                                  some (0, q11.2)
                              else
                                if (σ fM_sort 0 0) = 15 then
                                  (c_m_askFifteen d (ga_up (ga_up (ga_up (ga_up σ fM_bestFault 0 0 0) fM_news 0 0 0) fM_itKind 0 0 (-1)) fM_nounKind 0 0 (-1))).bind fun q10 =>
                                    some (0, q10.2)
                                else
                                  if (σ fM_sort 0 0) = 16 then
                                    (c_m_askFifteen d (ga_up (ga_up (ga_up (ga_up σ fM_bestFault 0 0 0) fM_news 0 0 0) fM_itKind 0 0 (-1)) fM_nounKind 0 0 (-1))).bind fun q9 =>
                                      some (0, q9.2)
                                  else
                                    if (σ fM_sort 0 0) = 17 then
                                      (c_m_kindOfRun d (ga_up (ga_up (ga_up (ga_up σ fM_bestFault 0 0 0) fM_news 0 0 0) fM_itKind 0 0 (-1)) fM_nounKind 0 0 (-1)) 0).bind fun q7 =>
                                        (c_m_typeOrPlural d q7.2 1).bind fun q8 =>
                                          if q8.1 = (-1) then
                                            m_asked_348 d q8.2 0
                                          else
                                            m_asked_348 d q8.2 1
                                    else
                                      if (σ fM_sort 0 0) = 18 then
                                        (c_m_kindOfRun d (ga_up (ga_up (ga_up (ga_up σ fM_bestFault 0 0 0) fM_news 0 0 0) fM_itKind 0 0 (-1)) fM_nounKind 0 0 (-1)) 0).bind fun q5 =>
                                          (c_m_mustBeNew d q5.2 1 (q5.2 fM_adjectives 0 0) 24).bind fun q6 =>
                                            if 0 < (q6.2 fM_news 0 0) then
                                              m_asked_445 d q6.2 1 (q6.2 fM_adjectives 0 0) 2
                                            else
                                              m_asked_445 d q6.2 0 (q6.2 fM_adjectives 0 0) 2
                                      else
                                        if (σ fM_sort 0 0) = 19 then
                                          (c_m_mustBeNew d (ga_up (ga_up (ga_up (ga_up σ fM_bestFault 0 0 0) fM_news 0 0 0) fM_itKind 0 0 (-1)) fM_nounKind 0 0 (-1)) 0 (σ fM_relations 0 0) 6).bind fun q3 =>
                                            (c_m_kindOrPlural d q3.2 1).bind fun q4 =>
                                              if q4.1 = (-1) then
                                                m_asked_480 d q4.2 0
                                              else
                                                m_asked_480 d q4.2 1
                                        else
                                          if (σ fM_sort 0 0) = 20 then
                                            (c_m_askSaying d (ga_up (ga_up (ga_up (ga_up σ fM_bestFault 0 0 0) fM_news 0 0 0) fM_itKind 0 0 (-1)) fM_nounKind 0 0 (-1)) a1).bind fun q2 =>
                                              some (0, q2.2)
                                          else
                                            (c_m_ruleMeant d (ga_up (ga_up (ga_up (ga_up σ fM_bestFault 0 0 0) fM_news 0 0 0) fM_itKind 0 0 (-1)) fM_nounKind 0 0 (-1)) a1).bind fun q1 =>
                                              some (0, q1.2) :=
  ga_blk_eq am_G (am_run d) mt_m_asked 46 0 [(0, 12, 0), (1, 0, a1)] [] σ
set_option maxRecDepth 100000 in
theorem e_m_asked_480 (d : Nat) (σ : ga_S) (s0 : Int) : m_asked_480 d σ s0 = (c_m_need d σ s0 4 (σ fM_runFrom 0 1)).bind fun q32 =>
    (c_m_kindOrPlural d q32.2 2).bind fun q33 =>
      if q33.1 = (-1) then
        m_asked_505 d q33.2 0
      else
        m_asked_505 d q33.2 1 :=
  ga_blk_eq am_G (am_run d) mt_m_asked 14 480 [(0, 12, 0)] [(0, s0), (12, 0)] σ
set_option maxRecDepth 100000 in
theorem e_m_asked_445 (d : Nat) (σ : ga_S) (s0 s1 s2 : Int) : m_asked_445 d σ s0 s1 s2 = (c_m_mustBeNew d σ s2 (w32 (s1 + s0)) 24).bind fun q34 =>
    some (0, q34.2) :=
  ga_blk_eq am_G (am_run d) mt_m_asked 5 445 [] [(0, s0), (0, s1), (0, s2), (12, 0)] σ
set_option maxRecDepth 100000 in
theorem e_m_asked_348 (d : Nat) (σ : ga_S) (s0 : Int) : m_asked_348 d σ s0 = (c_m_need d σ s0 4 (σ fM_runFrom 0 1)).bind fun q35 =>
    (c_m_meansNothing d q35.2 2).bind fun q36 =>
      if q36.1 = 0 then
        (c_m_meansRun d q36.2 2 7).bind fun q37 =>
          if q37.1 = (-1) then
            m_asked_397 d q37.2 0
          else
            m_asked_397 d q37.2 1
      else
        (c_m_mustBeNew d q36.2 2 (q36.2 fM_properties 0 0) 12).bind fun q38 =>
          some (0, q38.2) :=
  ga_blk_eq am_G (am_run d) mt_m_asked 19 348 [(0, 12, 0)] [(0, s0), (12, 0)] σ
set_option maxRecDepth 100000 in
theorem e_m_asked_209 (d : Nat) (σ : ga_S) : m_asked_209 d σ = m_asked_214 d σ 1 :=
  ga_blk_eq am_G (am_run d) mt_m_asked 2 209 [(0, 12, 0)] [(12, 0)] σ
set_option maxRecDepth 100000 in
theorem e_m_asked_214 (d : Nat) (σ : ga_S) (s0 : Int) : m_asked_214 d σ s0 = (c_m_need d σ s0 4 (σ fM_runFrom 0 0)).bind fun q39 =>
    (c_m_mustBeNew d q39.2 1 0 1).bind fun q40 =>
      some (0, q40.2) :=
  ga_blk_eq am_G (am_run d) mt_m_asked 13 214 [(0, 12, 0)] [(0, s0), (12, 0)] σ
set_option maxRecDepth 100000 in
theorem e_m_asked_138 (d : Nat) (σ : ga_S) (s0 : Int) : m_asked_138 d σ s0 = (c_m_need d σ s0 4 (σ fM_textAt 0 0)).bind fun q41 =>
    some (0, q41.2) :=
  ga_blk_eq am_G (am_run d) mt_m_asked 6 138 [(0, 12, 0)] [(0, s0), (12, 0)] σ
set_option maxRecDepth 100000 in
theorem e_m_asked_505 (d : Nat) (σ : ga_S) (s0 : Int) : m_asked_505 d σ s0 = (c_m_need d σ s0 4 (σ fM_runFrom 0 2)).bind fun q42 =>
    some (0, q42.2) :=
  ga_blk_eq am_G (am_run d) mt_m_asked 8 505 [(0, 12, 0)] [(0, s0), (12, 0)] σ
set_option maxRecDepth 100000 in
theorem e_m_asked_397 (d : Nat) (σ : ga_S) (s0 : Int) : m_asked_397 d σ s0 = (c_m_need d σ s0 4 (σ fM_runFrom 0 2)).bind fun q43 =>
    some (0, q43.2) :=
  ga_blk_eq am_G (am_run d) mt_m_asked 8 397 [(0, 12, 0)] [(0, s0), (12, 0)] σ
set_option maxRecDepth 100000 in
theorem e_m_askVerb (d : Nat) (σ : ga_S) : c_m_askVerb (d + 1) σ = if (σ fM_runSize 0 0) = 1 then
    (c_m_isNew d σ 0).bind fun q1 =>
      if q1.1 = 0 then
        m_askVerb_66 d q1.2 (σ fM_runFrom 0 0)
      else
        ga_ck (σ fM_runFrom 0 0) 5002 (if (ga_lcmp (ga_lshr (q1.2 fM_word 0 (σ fM_runFrom 0 0)) 55) 0) = 0 then
            ga_ck (σ fM_runFrom 0 0) 5002 ((c_m_find d q1.2 (ga_lor (ga_lshl (q1.2 fM_word 0 (σ fM_runFrom 0 0)) 5) 19) 0 0 1).bind fun q2 =>
                if q2.1 = (-1) then
                  m_askVerb_62 d q2.2 (σ fM_runFrom 0 0)
                else
                  m_askVerb_66 d q2.2 (σ fM_runFrom 0 0))
          else
            m_askVerb_62 d q1.2 (σ fM_runFrom 0 0))
  else
    m_askVerb_66 d σ (σ fM_runFrom 0 0) :=
  ga_blk_eq am_G (am_run d) mt_m_askVerb 39 0 [(0, 12, 0)] [] σ
set_option maxRecDepth 100000 in
theorem e_m_askVerb_66 (d : Nat) (σ : ga_S) (v1 : Int) : m_askVerb_66 d σ v1 = m_askVerb_67 d σ v1 0 :=
  ga_blk_eq am_G (am_run d) mt_m_askVerb 1 66 [(0, 12, 0), (1, 0, v1)] [] σ
set_option maxRecDepth 100000 in
theorem e_m_askVerb_62 (d : Nat) (σ : ga_S) (v1 : Int) : m_askVerb_62 d σ v1 = m_askVerb_67 d σ v1 1 :=
  ga_blk_eq am_G (am_run d) mt_m_askVerb 2 62 [(0, 12, 0), (1, 0, v1)] [] σ
set_option maxRecDepth 100000 in
theorem e_m_askVerb_67 (d : Nat) (σ : ga_S) (v1 s0 : Int) : m_askVerb_67 d σ v1 s0 = (c_m_need d σ s0 3 v1).bind fun q3 =>
    if s0 = 0 then
      m_askVerb_89 d q3.2 v1
    else
      if (q3.2 fM_verbs 0 0) < 8 then
        m_askVerb_89 d q3.2 v1
      else
        m_askVerb_94 d q3.2 v1 0 :=
  ga_blk_eq am_G (am_run d) mt_m_askVerb 14 67 [(0, 12, 0), (1, 0, v1)] [(0, s0)] σ
set_option maxRecDepth 100000 in
theorem e_m_askVerb_89 (d : Nat) (σ : ga_S) (v1 : Int) : m_askVerb_89 d σ v1 = m_askVerb_94 d σ v1 1 :=
  ga_blk_eq am_G (am_run d) mt_m_askVerb 2 89 [(0, 12, 0), (1, 0, v1)] [(12, 0)] σ
set_option maxRecDepth 100000 in
theorem e_m_askVerb_94 (d : Nat) (σ : ga_S) (v1 s0 : Int) : m_askVerb_94 d σ v1 s0 = (c_m_need d σ s0 9 v1).bind fun q4 =>
    (c_m_meansRun d q4.2 1 8).bind fun q5 =>
      if q5.1 = (-1) then
        m_askVerb_117 d q5.2 0
      else
        m_askVerb_117 d q5.2 1 :=
  ga_blk_eq am_G (am_run d) mt_m_askVerb 12 94 [(0, 12, 0), (1, 0, v1)] [(0, s0), (12, 0)] σ
set_option maxRecDepth 100000 in
theorem e_m_askVerb_117 (d : Nat) (σ : ga_S) (s0 : Int) : m_askVerb_117 d σ s0 = (c_m_need d σ s0 4 (σ fM_runFrom 0 1)).bind fun q6 =>
    some (0, q6.2) :=
  ga_blk_eq am_G (am_run d) mt_m_askVerb 7 117 [(0, 12, 0)] [(0, s0), (12, 0)] σ
set_option maxRecDepth 100000 in
theorem e_m_askProperty (d : Nat) (σ : ga_S) : c_m_askProperty (d + 1) σ = (c_m_meansRun d σ 1 4).bind fun q1 =>
    if q1.1 = (-1) then
      (c_m_meansRun d q1.2 1 0).bind fun q2 =>
        m_askProperty_27 d q2.2 q2.1
    else
      ga_ck q1.1 24 (m_askProperty_27 d q1.2 (q1.2 fM_kindOf 0 q1.1)) :=
  ga_blk_eq am_G (am_run d) mt_m_askProperty 13 0 [(0, 12, 0)] [] σ
set_option maxRecDepth 100000 in
theorem e_m_askProperty_27 (d : Nat) (σ : ga_S) (s0 : Int) : m_askProperty_27 d σ s0 = (c_m_meansRun d σ 0 7).bind fun q3 =>
    if s0 = (-1) then
      m_askProperty_47 d q3.2 s0 q3.1 0
    else
      m_askProperty_47 d q3.2 s0 q3.1 1 :=
  ga_blk_eq am_G (am_run d) mt_m_askProperty 12 27 [(0, 12, 0)] [(0, s0)] σ
set_option maxRecDepth 100000 in
theorem e_m_askProperty_47 (d : Nat) (σ : ga_S) (v2 v3 s0 : Int) : m_askProperty_47 d σ v2 v3 s0 = (c_m_need d σ s0 4 (σ fM_runFrom 0 1)).bind fun q4 =>
    if v3 = (-1) then
      m_askProperty_80 d q4.2 v3
    else
      if v2 = (-1) then
        m_askProperty_76 d q4.2 v3
      else
        (c_m_has d q4.2 v2 v3).bind fun q5 =>
          if q5.1 = 0 then
            m_askProperty_80 d q5.2 v3
          else
            m_askProperty_76 d q5.2 v3 :=
  ga_blk_eq am_G (am_run d) mt_m_askProperty 17 47 [(0, 12, 0), (2, 0, v2), (3, 0, v3)] [(0, s0), (12, 0)] σ
set_option maxRecDepth 100000 in
theorem e_m_askProperty_80 (d : Nat) (σ : ga_S) (v3 : Int) : m_askProperty_80 d σ v3 = m_askProperty_81 d σ v3 0 :=
  ga_blk_eq am_G (am_run d) mt_m_askProperty 1 80 [(0, 12, 0), (3, 0, v3)] [] σ
set_option maxRecDepth 100000 in
theorem e_m_askProperty_76 (d : Nat) (σ : ga_S) (v3 : Int) : m_askProperty_76 d σ v3 = m_askProperty_81 d σ v3 1 :=
  ga_blk_eq am_G (am_run d) mt_m_askProperty 2 76 [(0, 12, 0), (3, 0, v3)] [] σ
set_option maxRecDepth 100000 in
theorem e_m_askProperty_81 (d : Nat) (σ : ga_S) (v3 s0 : Int) : m_askProperty_81 d σ v3 s0 = (c_m_need d σ s0 4 (σ fM_runFrom 0 0)).bind fun q6 =>
    if v3 = (-1) then
      some (0, q6.2)
    else
      ga_ck v3 12 ((c_m_whatMeant d q6.2 (q6.2 fM_what 0 0) 2 (q6.2 fM_propertyType 0 v3) (q6.2 fM_tests 0 0)).bind fun q7 =>
          some (0, q7.2)) :=
  ga_blk_eq am_G (am_run d) mt_m_askProperty 24 81 [(0, 12, 0), (3, 0, v3)] [(0, s0)] σ
set_option maxRecDepth 100000 in
theorem e_m_askKinds (d : Nat) (σ : ga_S) : c_m_askKinds (d + 1) σ = if (σ fM_sort 0 0) = 10 then
    if (σ fM_what 0 0) = (-2) then
      m_askKinds_23 d σ 1
    else
      m_askKinds_22 d σ
  else
    m_askKinds_22 d σ :=
  ga_blk_eq am_G (am_run d) mt_m_askKinds 10 0 [(0, 12, 0)] [] σ
set_option maxRecDepth 100000 in
theorem e_m_askKinds_22 (d : Nat) (σ : ga_S) : m_askKinds_22 d σ = m_askKinds_23 d σ 0 :=
  ga_blk_eq am_G (am_run d) mt_m_askKinds 1 22 [(0, 12, 0)] [] σ
set_option maxRecDepth 100000 in
theorem e_m_askKinds_23 (d : Nat) (σ : ga_S) (s0 : Int) : m_askKinds_23 d σ s0 = if (σ fM_sort 0 0) = 11 then
    m_askKinds_55 d σ s0 (σ fM_actions 0 0)
  else
    if s0 = 0 then
      m_askKinds_55 d σ s0 (σ fM_kinds 0 0)
    else
      m_askKinds_55 d σ s0 (σ fM_types 0 0) :=
  ga_blk_eq am_G (am_run d) mt_m_askKinds 10 23 [(0, 12, 0)] [(0, s0)] σ
set_option maxRecDepth 100000 in
theorem e_m_askKinds_55 (d : Nat) (σ : ga_S) (v1 s0 : Int) : m_askKinds_55 d σ v1 s0 = if (σ fM_sort 0 0) = 11 then
    m_askKinds_81 d σ v1 s0 12
  else
    if v1 = 0 then
      m_askKinds_81 d σ v1 s0 16
    else
      m_askKinds_81 d σ v1 s0 8 :=
  ga_blk_eq am_G (am_run d) mt_m_askKinds 9 55 [(0, 12, 0), (1, 0, v1)] [(0, s0)] σ
set_option maxRecDepth 100000 in
theorem e_m_askKinds_81 (d : Nat) (σ : ga_S) (v1 v2 s0 : Int) : m_askKinds_81 d σ v1 v2 s0 = m_askKinds_85 d σ v1 v2 s0 0 :=
  ga_blk_eq am_G (am_run d) mt_m_askKinds 3 81 [(0, 12, 0), (1, 0, v1), (2, 0, v2)] [(0, s0)] σ
set_option maxRecDepth 100000 in
theorem e_m_askKinds_85 (d : Nat) (σ : ga_S) (v1 v2 v3 v4 : Int) : m_askKinds_85 d σ v1 v2 v3 v4 = if v4 < (σ fM_listSize 0 0) then
    (c_m_isNew d σ (w32 ((σ fM_listFrom 0 0) + v4))).bind fun q2 =>
      (c_m_mustBeNew d q2.2 (w32 ((q2.2 fM_listFrom 0 0) + v4)) v2 v3).bind fun q3 =>
        if q2.1 = 0 then
          m_askKinds_131 d q3.2 v1 v3 v4 0 v2
        else
          m_askKinds_131 d q3.2 v1 v3 v4 1 v2
  else
    if (σ fM_what 0 0) = (-1) then
      some (0, σ)
    else
      if v1 = 0 then
        (c_m_kindOfRun d σ (σ fM_what 0 0)).bind fun q1 =>
          some (0, q1.2)
      else
        some (0, σ) :=
  ga_blk_eq am_G (am_run d) mt_m_askKinds 24 85 [(0, 12, 0), (1, 0, v1), (2, 0, v2), (3, 0, v3), (4, 0, v4)] [] σ
set_option maxRecDepth 100000 in
theorem e_m_askKinds_131 (d : Nat) (σ : ga_S) (v1 v3 v4 s0 s1 : Int) : m_askKinds_131 d σ v1 v3 v4 s0 s1 = m_askKinds_85 d σ v1 (w32 (s1 + s0)) v3 (w32 (v4 + 1)) :=
  ga_blk_eq am_G (am_run d) mt_m_askKinds 4 131 [(0, 12, 0), (1, 0, v1), (3, 0, v3), (4, 0, v4)] [(0, s0), (0, s1)] σ
set_option maxRecDepth 100000 in
theorem e_m_askPlace (d : Nat) (σ : ga_S) : c_m_askPlace (d + 1) σ = if (σ fM_placeWay 0 0) = 0 then
    some (0, σ)
  else
    (c_m_meansRun d σ (σ fM_placeRun 0 0) 4).bind fun q1 =>
      if q1.1 = (-1) then
        m_askPlace_45 d q1.2
      else
        ga_ck q1.1 24 ((c_m_mayHold d q1.2 (q1.2 fM_placeWay 0 0) (q1.2 fM_kindOf 0 q1.1)).bind fun q2 =>
            if q2.1 = 0 then
              m_askPlace_45 d q2.2
            else
              m_askPlace_46 d q2.2 1) :=
  ga_blk_eq am_G (am_run d) mt_m_askPlace 24 0 [(0, 12, 0)] [] σ
set_option maxRecDepth 100000 in
theorem e_m_askPlace_45 (d : Nat) (σ : ga_S) : m_askPlace_45 d σ = m_askPlace_46 d σ 0 :=
  ga_blk_eq am_G (am_run d) mt_m_askPlace 1 45 [(0, 12, 0)] [(12, 0)] σ
set_option maxRecDepth 100000 in
theorem e_m_askPlace_46 (d : Nat) (σ : ga_S) (s0 : Int) : m_askPlace_46 d σ s0 = ga_ck (σ fM_placeRun 0 0) 2600 ((c_m_need d σ s0 4 (σ fM_runFrom 0 (σ fM_placeRun 0 0))).bind fun q3 =>
      some (0, q3.2)) :=
  ga_blk_eq am_G (am_run d) mt_m_askPlace 8 46 [(0, 12, 0)] [(0, s0), (12, 0)] σ
set_option maxRecDepth 100000 in
theorem e_m_askWay (d : Nat) (σ : ga_S) : c_m_askWay (d + 1) σ = (c_m_meansNothing d σ (σ fM_listFrom 0 0)).bind fun q1 =>
    if q1.1 = 0 then
      (c_m_meansRun d q1.2 (σ fM_listFrom 0 0) 4).bind fun q2 =>
        if q2.1 = (-1) then
          m_askWay_58 d q2.2 (σ fM_listFrom 0 0)
        else
          ga_ck q2.1 24 ((c_m_isBelow d q2.2 (q2.2 fM_kindOf 0 q2.1) 1).bind fun q3 =>
              if q3.1 = 0 then
                m_askWay_58 d q3.2 (σ fM_listFrom 0 0)
              else
                m_askWay_59 d q3.2 (σ fM_listFrom 0 0) 1)
    else
      (c_m_mustBeNew d q1.2 (σ fM_listFrom 0 0) (q1.2 fM_objects 0 0) 24).bind fun q4 =>
        m_askWay_69 d q4.2 (σ fM_listFrom 0 0) :=
  ga_blk_eq am_G (am_run d) mt_m_askWay 26 0 [(0, 12, 0)] [] σ
set_option maxRecDepth 100000 in
theorem e_m_askWay_58 (d : Nat) (σ : ga_S) (v1 : Int) : m_askWay_58 d σ v1 = m_askWay_59 d σ v1 0 :=
  ga_blk_eq am_G (am_run d) mt_m_askWay 1 58 [(0, 12, 0), (1, 0, v1)] [(12, 0)] σ
set_option maxRecDepth 100000 in
theorem e_m_askWay_59 (d : Nat) (σ : ga_S) (v1 s0 : Int) : m_askWay_59 d σ v1 s0 = ga_ck v1 2600 ((c_m_need d σ s0 4 (σ fM_runFrom 0 v1)).bind fun q5 =>
      m_askWay_69 d q5.2 v1) :=
  ga_blk_eq am_G (am_run d) mt_m_askWay 6 59 [(0, 12, 0), (1, 0, v1)] [(0, s0), (12, 0)] σ
set_option maxRecDepth 100000 in
theorem e_m_askWay_69 (d : Nat) (σ : ga_S) (v1 : Int) : m_askWay_69 d σ v1 = if 1 < (σ fM_listSize 0 0) then
    ga_ck (w32 (v1 + 1)) 2600 ((c_m_note d σ 4 (σ fM_runFrom 0 (w32 (v1 + 1)))).bind fun q6 =>
        m_askWay_90 d q6.2)
  else
    m_askWay_90 d σ :=
  ga_blk_eq am_G (am_run d) mt_m_askWay 13 69 [(0, 12, 0), (1, 0, v1)] [] σ
set_option maxRecDepth 100000 in
theorem e_m_askWay_90 (d : Nat) (σ : ga_S) : m_askWay_90 d σ = (c_m_meansRun d σ (σ fM_what 0 0) 12).bind fun q7 =>
    if q7.1 = (-1) then
      m_askWay_110 d q7.2 0
    else
      m_askWay_110 d q7.2 1 :=
  ga_blk_eq am_G (am_run d) mt_m_askWay 10 90 [(0, 12, 0)] [] σ
set_option maxRecDepth 100000 in
theorem e_m_askWay_110 (d : Nat) (σ : ga_S) (s0 : Int) : m_askWay_110 d σ s0 = ga_ck (σ fM_what 0 0) 2600 ((c_m_need d σ s0 4 (σ fM_runFrom 0 (σ fM_what 0 0))).bind fun q8 =>
      (c_m_meansRun d q8.2 (q8.2 fM_placeRun 0 0) 4).bind fun q9 =>
        if q9.1 = (-1) then
          m_askWay_157 d q9.2
        else
          ga_ck q9.1 24 ((c_m_isBelow d q9.2 (q9.2 fM_kindOf 0 q9.1) 1).bind fun q10 =>
              if q10.1 = 0 then
                m_askWay_157 d q10.2
              else
                m_askWay_158 d q10.2 1)) :=
  ga_blk_eq am_G (am_run d) mt_m_askWay 27 110 [(0, 12, 0)] [(0, s0), (12, 0)] σ
set_option maxRecDepth 100000 in
theorem e_m_askWay_157 (d : Nat) (σ : ga_S) : m_askWay_157 d σ = m_askWay_158 d σ 0 :=
  ga_blk_eq am_G (am_run d) mt_m_askWay 1 157 [(0, 12, 0)] [(12, 0)] σ
set_option maxRecDepth 100000 in
theorem e_m_askWay_158 (d : Nat) (σ : ga_S) (s0 : Int) : m_askWay_158 d σ s0 = ga_ck (σ fM_placeRun 0 0) 2600 ((c_m_need d σ s0 4 (σ fM_runFrom 0 (σ fM_placeRun 0 0))).bind fun q11 =>
      some (0, q11.2)) :=
  ga_blk_eq am_G (am_run d) mt_m_askWay 8 158 [(0, 12, 0)] [(0, s0), (12, 0)] σ
set_option maxRecDepth 100000 in
theorem e_m_askFifteen (d : Nat) (σ : ga_S) : c_m_askFifteen (d + 1) σ = ga_ck (σ fM_what 0 0) 2600 (if (σ fM_isUsually 0 0) = 0 then
      if (σ fM_listSize 0 0) = 1 then
        (c_m_typeOrPlural d σ (σ fM_listFrom 0 0)).bind fun q1 =>
          m_askFifteen_140 d q1.2 (σ fM_listFrom 0 0) (σ fM_runFrom 0 (σ fM_what 0 0)) q1.1
      else
        m_askFifteen_140 d σ (σ fM_listFrom 0 0) (σ fM_runFrom 0 (σ fM_what 0 0)) (-1)
    else
      (c_m_kindOfRun d (ga_up σ fM_how 0 0 1) (σ fM_listFrom 0 0)).bind fun q2 =>
        if 1 < (q2.2 fM_listSize 0 0) then
          ga_ck (w32 ((σ fM_listFrom 0 0) + 1)) 2600 ((c_m_note d q2.2 4 (q2.2 fM_runFrom 0 (w32 ((σ fM_listFrom 0 0) + 1)))).bind fun q3 =>
              m_askFifteen_54 d q3.2 (σ fM_runFrom 0 (σ fM_what 0 0)) q2.1)
        else
          m_askFifteen_54 d q2.2 (σ fM_runFrom 0 (σ fM_what 0 0)) q2.1) :=
  ga_blk_eq am_G (am_run d) mt_m_askFifteen 32 0 [(0, 12, 0)] [] σ
set_option maxRecDepth 100000 in
theorem e_m_askFifteen_140 (d : Nat) (σ : ga_S) (v1 v2 s0 : Int) : m_askFifteen_140 d σ v1 v2 s0 = if (σ fM_sort 0 0) = 16 then
    m_askFifteen_162 d σ v1 s0
  else
    if 1 < s0 then
      if (σ fM_isNot 0 0) = 0 then
        m_askFifteen_162 d σ v1 s0
      else
        m_askFifteen_219 d σ v1 v2
    else
      m_askFifteen_219 d σ v1 v2 :=
  ga_blk_eq am_G (am_run d) mt_m_askFifteen 11 140 [(0, 12, 0), (1, 0, v1), (2, 0, v2)] [(0, s0)] σ
set_option maxRecDepth 100000 in
theorem e_m_askFifteen_54 (d : Nat) (σ : ga_S) (v2 v3 : Int) : m_askFifteen_54 d σ v2 v3 = if v3 = (-1) then
    some (0, σ)
  else
    ga_ck (σ fM_what 0 0) 2600 ((c_m_adjective d σ v2 (σ fM_runSize 0 (σ fM_what 0 0)) v3 0 1).bind fun q4 =>
        if 0 < q4.1 then
          m_askFifteen_89 d q4.2 v2 q4.1 1
        else
          m_askFifteen_89 d q4.2 v2 q4.1 0) :=
  ga_blk_eq am_G (am_run d) mt_m_askFifteen 20 54 [(0, 12, 0), (2, 0, v2), (3, 0, v3)] [] σ
set_option maxRecDepth 100000 in
theorem e_m_askFifteen_162 (d : Nat) (σ : ga_S) (v1 v3 : Int) : m_askFifteen_162 d σ v1 v3 = (c_m_typeOrPlural d (ga_up σ fM_how 0 0 2) v1).bind fun q5 =>
    if 1 < q5.1 then
      m_askFifteen_182 d q5.2 v1 v3 1
    else
      m_askFifteen_182 d q5.2 v1 v3 0 :=
  ga_blk_eq am_G (am_run d) mt_m_askFifteen 11 162 [(0, 12, 0), (1, 0, v1), (3, 0, v3)] [] σ
set_option maxRecDepth 100000 in
theorem e_m_askFifteen_219 (d : Nat) (σ : ga_S) (v1 v2 : Int) : m_askFifteen_219 d σ v1 v2 = ga_ck (σ fM_what 0 0) 2600 ((c_m_mean d σ v2 (σ fM_runSize 0 (σ fM_what 0 0))).bind fun q6 =>
      if q6.1 = (-1) then
        m_askFifteen_268 d q6.2 v1 v2
      else
        ga_ck q6.1 300 (if (q6.2 fM_lexSort 0 q6.1) = 5 then
            m_askFifteen_264 d q6.2 v1 v2
          else
            ga_ck q6.1 300 (if (q6.2 fM_lexSort 0 q6.1) = 6 then
                m_askFifteen_264 d q6.2 v1 v2
              else
                m_askFifteen_268 d q6.2 v1 v2))) :=
  ga_blk_eq am_G (am_run d) mt_m_askFifteen 24 219 [(0, 12, 0), (1, 0, v1), (2, 0, v2)] [] σ
set_option maxRecDepth 100000 in
theorem e_m_askFifteen_89 (d : Nat) (σ : ga_S) (v2 v4 s0 : Int) : m_askFifteen_89 d σ v2 v4 s0 = (c_m_need d σ s0 4 v2).bind fun q7 =>
    if v4 < 2 then
      m_askFifteen_106 d q7.2 v2 1
    else
      m_askFifteen_106 d q7.2 v2 0 :=
  ga_blk_eq am_G (am_run d) mt_m_askFifteen 9 89 [(0, 12, 0), (2, 0, v2), (4, 0, v4)] [(0, s0), (12, 0)] σ
set_option maxRecDepth 100000 in
theorem e_m_askFifteen_182 (d : Nat) (σ : ga_S) (v1 v3 s0 : Int) : m_askFifteen_182 d σ v1 v3 s0 = ga_ck v1 2600 ((c_m_need d σ s0 4 (σ fM_runFrom 0 v1)).bind fun q8 =>
      if 1 < (q8.2 fM_listSize 0 0) then
        ga_ck (w32 (v1 + 1)) 2600 ((c_m_note d q8.2 4 (q8.2 fM_runFrom 0 (w32 (v1 + 1)))).bind fun q9 =>
            m_askFifteen_213 d q9.2 v3)
      else
        m_askFifteen_213 d q8.2 v3) :=
  ga_blk_eq am_G (am_run d) mt_m_askFifteen 19 182 [(0, 12, 0), (1, 0, v1), (3, 0, v3)] [(0, s0), (12, 0)] σ
set_option maxRecDepth 100000 in
theorem e_m_askFifteen_268 (d : Nat) (σ : ga_S) (v1 v2 : Int) : m_askFifteen_268 d σ v1 v2 = m_askFifteen_269 d σ v1 v2 0 :=
  ga_blk_eq am_G (am_run d) mt_m_askFifteen 1 268 [(0, 12, 0), (1, 0, v1), (2, 0, v2)] [] σ
set_option maxRecDepth 100000 in
theorem e_m_askFifteen_264 (d : Nat) (σ : ga_S) (v1 v2 : Int) : m_askFifteen_264 d σ v1 v2 = m_askFifteen_269 d σ v1 v2 1 :=
  ga_blk_eq am_G (am_run d) mt_m_askFifteen 2 264 [(0, 12, 0), (1, 0, v1), (2, 0, v2)] [] σ
set_option maxRecDepth 100000 in
theorem e_m_askFifteen_106 (d : Nat) (σ : ga_S) (v2 s0 : Int) : m_askFifteen_106 d σ v2 s0 = (c_m_need d σ s0 7 v2).bind fun q10 =>
    some (0, (ga_up q10.2 fM_readAdjective 0 0 (q10.2 fM_foundAdjective 0 0))) :=
  ga_blk_eq am_G (am_run d) mt_m_askFifteen 10 106 [(0, 12, 0), (2, 0, v2)] [(0, s0), (12, 0)] σ
set_option maxRecDepth 100000 in
theorem e_m_askFifteen_213 (d : Nat) (σ : ga_S) (v3 : Int) : m_askFifteen_213 d σ v3 = (c_m_askValues d σ v3).bind fun q11 =>
    some (0, q11.2) :=
  ga_blk_eq am_G (am_run d) mt_m_askFifteen 4 213 [(0, 12, 0), (3, 0, v3)] [] σ
set_option maxRecDepth 100000 in
theorem e_m_askFifteen_269 (d : Nat) (σ : ga_S) (v1 v2 s0 : Int) : m_askFifteen_269 d σ v1 v2 s0 = if (σ fM_isAre 0 0) = 0 then
    m_askFifteen_307 d (ga_up σ fM_readings 0 0 0) v1 v2 s0
  else
    if (σ fM_isNot 0 0) = 0 then
      ga_ck (σ fM_what 0 0) 2600 ((c_m_describe d (ga_up σ fM_readings 0 0 0) v2 (σ fM_runSize 0 (σ fM_what 0 0)) 1 0 (-1)).bind fun q12 =>
          m_askFifteen_307 d q12.2 v1 v2 s0)
    else
      m_askFifteen_307 d (ga_up σ fM_readings 0 0 0) v1 v2 s0 :=
  ga_blk_eq am_G (am_run d) mt_m_askFifteen 21 269 [(0, 12, 0), (1, 0, v1), (2, 0, v2)] [(0, s0)] σ
set_option maxRecDepth 100000 in
theorem e_m_askFifteen_307 (d : Nat) (σ : ga_S) (v1 v2 v5 : Int) : m_askFifteen_307 d σ v1 v2 v5 = if 0 < (σ fM_readings 0 0) then
    m_askFifteen_319 d σ v1 v2 v5 1
  else
    m_askFifteen_319 d σ v1 v2 v5 0 :=
  ga_blk_eq am_G (am_run d) mt_m_askFifteen 5 307 [(0, 12, 0), (1, 0, v1), (2, 0, v2), (5, 0, v5)] [] σ
set_option maxRecDepth 100000 in
theorem e_m_askFifteen_319 (d : Nat) (σ : ga_S) (v1 v2 v5 s0 : Int) : m_askFifteen_319 d σ v1 v2 v5 s0 = if s0 = 0 then
    m_askFifteen_336 d σ v1 v2 v5 s0
  else
    if v5 = 0 then
      m_askFifteen_337 d σ v1 v2 v5 s0 3
    else
      m_askFifteen_336 d σ v1 v2 v5 s0 :=
  ga_blk_eq am_G (am_run d) mt_m_askFifteen 8 319 [(0, 12, 0), (1, 0, v1), (2, 0, v2), (5, 0, v5)] [(0, s0)] σ
set_option maxRecDepth 100000 in
theorem e_m_askFifteen_336 (d : Nat) (σ : ga_S) (v1 v2 v5 v6 : Int) : m_askFifteen_336 d σ v1 v2 v5 v6 = m_askFifteen_337 d σ v1 v2 v5 v6 4 :=
  ga_blk_eq am_G (am_run d) mt_m_askFifteen 1 336 [(0, 12, 0), (1, 0, v1), (2, 0, v2), (5, 0, v5), (6, 0, v6)] [(12, 0)] σ
set_option maxRecDepth 100000 in
theorem e_m_askFifteen_337 (d : Nat) (σ : ga_S) (v1 v2 v5 v6 s0 : Int) : m_askFifteen_337 d σ v1 v2 v5 v6 s0 = if s0 = 3 then
    (c_m_objectsOrNew d (ga_up σ fM_how 0 0 s0)).bind fun q13 =>
      (c_m_oneReading d q13.2 v2).bind fun q14 =>
        some (0, q14.2)
  else
    m_askFifteen_361 d (ga_up σ fM_how 0 0 s0) v1 v2 v5 v6 0 :=
  ga_blk_eq am_G (am_run d) mt_m_askFifteen 11 337 [(0, 12, 0), (1, 0, v1), (2, 0, v2), (5, 0, v5), (6, 0, v6)] [(0, s0), (12, 0)] σ
set_option maxRecDepth 100000 in
theorem e_m_askFifteen_361 (d : Nat) (σ : ga_S) (v1 v2 v5 v6 v7 : Int) : m_askFifteen_361 d σ v1 v2 v5 v6 v7 = if v7 < (σ fM_listSize 0 0) then
    (c_m_meansRun d σ (w32 (v1 + v7)) 4).bind fun q17 =>
      if q17.1 = (-1) then
        m_askFifteen_389 d q17.2 v1 v2 v5 v6 v7 0
      else
        m_askFifteen_389 d q17.2 v1 v2 v5 v6 v7 1
  else
    if v6 = 0 then
      (c_m_need d σ v5 4 v2).bind fun q15 =>
        m_askFifteen_432 d q15.2 v1 v2 v5 0
    else
      (c_m_note d σ 7 v2).bind fun q16 =>
        some (0, q16.2) :=
  ga_blk_eq am_G (am_run d) mt_m_askFifteen 15 361 [(0, 12, 0), (1, 0, v1), (2, 0, v2), (5, 0, v5), (6, 0, v6), (7, 0, v7)] [] σ
set_option maxRecDepth 100000 in
theorem e_m_askFifteen_432 (d : Nat) (σ : ga_S) (v1 v2 v5 v7 : Int) : m_askFifteen_432 d σ v1 v2 v5 v7 = if v7 < (σ fM_listSize 0 0) then
    if v5 = 0 then
      some (0, σ)
    else
      (c_m_meansRun d σ (w32 (v1 + v7)) 4).bind fun q18 =>
        if q18.1 = (-1) then
          m_askFifteen_533 d q18.2 v1 v2 v5 v7
        else
          ga_ck (q18.2 fM_what 0 0) 2600 (ga_ck q18.1 24 (if (q18.2 fM_isNot 0 0) = 0 then
                m_askFifteen_494 d q18.2 v1 v2 v5 v7 1 0 (q18.2 fM_kindOf 0 q18.1) (q18.2 fM_runSize 0 (q18.2 fM_what 0 0)) v2
              else
                m_askFifteen_494 d q18.2 v1 v2 v5 v7 0 0 (q18.2 fM_kindOf 0 q18.1) (q18.2 fM_runSize 0 (q18.2 fM_what 0 0)) v2))
  else
    some (0, σ) :=
  ga_blk_eq am_G (am_run d) mt_m_askFifteen 33 432 [(0, 12, 0), (1, 0, v1), (2, 0, v2), (5, 0, v5), (7, 0, v7)] [] σ
set_option maxRecDepth 100000 in
theorem e_m_askFifteen_389 (d : Nat) (σ : ga_S) (v1 v2 v5 v6 v7 s0 : Int) : m_askFifteen_389 d σ v1 v2 v5 v6 v7 s0 = ga_ck (w32 (v1 + v7)) 2600 ((c_m_need d σ s0 4 (σ fM_runFrom 0 (w32 (v1 + v7)))).bind fun q19 =>
      m_askFifteen_361 d q19.2 v1 v2 v5 v6 (w32 (v7 + 1))) :=
  ga_blk_eq am_G (am_run d) mt_m_askFifteen 10 389 [(0, 12, 0), (1, 0, v1), (2, 0, v2), (5, 0, v5), (6, 0, v6), (7, 0, v7)] [(0, s0), (12, 0)] σ
set_option maxRecDepth 100000 in
theorem e_m_askFifteen_533 (d : Nat) (σ : ga_S) (v1 v2 v5 v7 : Int) : m_askFifteen_533 d σ v1 v2 v5 v7 = m_askFifteen_432 d σ v1 v2 v5 (w32 (v7 + 1)) :=
  ga_blk_eq am_G (am_run d) mt_m_askFifteen 2 533 [(0, 12, 0), (1, 0, v1), (2, 0, v2), (5, 0, v5), (7, 0, v7)] [] σ
set_option maxRecDepth 100000 in
theorem e_m_askFifteen_494 (d : Nat) (σ : ga_S) (v1 v2 v5 v7 s0 s1 s2 s3 s4 : Int) : m_askFifteen_494 d σ v1 v2 v5 v7 s0 s1 s2 s3 s4 = (c_m_adjective d σ s4 s3 s2 s1 s0).bind fun q20 =>
    if 0 < q20.1 then
      m_askFifteen_510 d q20.2 v1 v2 v5 v7 q20.1 1
    else
      m_askFifteen_510 d q20.2 v1 v2 v5 v7 q20.1 0 :=
  ga_blk_eq am_G (am_run d) mt_m_askFifteen 7 494 [(0, 12, 0), (1, 0, v1), (2, 0, v2), (5, 0, v5), (7, 0, v7)] [(0, s0), (0, s1), (0, s2), (0, s3), (0, s4), (12, 0)] σ
set_option maxRecDepth 100000 in
theorem e_m_askFifteen_510 (d : Nat) (σ : ga_S) (v1 v2 v5 v7 v9 s0 : Int) : m_askFifteen_510 d σ v1 v2 v5 v7 v9 s0 = (c_m_need d σ s0 4 v2).bind fun q21 =>
    if v9 < 2 then
      m_askFifteen_527 d q21.2 v1 v2 v5 v7 1
    else
      m_askFifteen_527 d q21.2 v1 v2 v5 v7 0 :=
  ga_blk_eq am_G (am_run d) mt_m_askFifteen 9 510 [(0, 12, 0), (1, 0, v1), (2, 0, v2), (5, 0, v5), (7, 0, v7), (9, 0, v9)] [(0, s0), (12, 0)] σ
set_option maxRecDepth 100000 in
theorem e_m_askFifteen_527 (d : Nat) (σ : ga_S) (v1 v2 v5 v7 s0 : Int) : m_askFifteen_527 d σ v1 v2 v5 v7 s0 = (c_m_need d σ s0 7 v2).bind fun q22 =>
    m_askFifteen_533 d q22.2 v1 v2 v5 v7 :=
  ga_blk_eq am_G (am_run d) mt_m_askFifteen 3 527 [(0, 12, 0), (1, 0, v1), (2, 0, v2), (5, 0, v5), (7, 0, v7)] [(0, s0), (12, 0)] σ
set_option maxRecDepth 100000 in
theorem e_m_askValues (d : Nat) (σ : ga_S) (a1 : Int) : c_m_askValues (d + 1) σ a1 = m_askValues_4 d σ a1 0 0 :=
  ga_blk_eq am_G (am_run d) mt_m_askValues 4 0 [(0, 12, 0), (1, 0, a1)] [] σ
set_option maxRecDepth 100000 in
theorem e_m_askValues_4 (d : Nat) (σ : ga_S) (v1 v2 v3 : Int) : m_askValues_4 d σ v1 v2 v3 = if v3 < (σ fM_values 0 0) then
    ga_ck v3 64 (if (σ fM_valueType 0 v3) = v1 then
        m_askValues_28 d σ v1 v3 1 v2
      else
        m_askValues_28 d σ v1 v3 0 v2)
  else
    m_askValues_41 d σ v1 v2 (σ fM_what 0 0) :=
  ga_blk_eq am_G (am_run d) mt_m_askValues 13 4 [(0, 12, 0), (1, 0, v1), (2, 0, v2), (3, 0, v3)] [] σ
set_option maxRecDepth 100000 in
theorem e_m_askValues_41 (d : Nat) (σ : ga_S) (v1 v2 v3 : Int) : m_askValues_41 d σ v1 v2 v3 = if v3 < (σ fM_runs 0 0) then
    (c_m_isNew d σ v3).bind fun q1 =>
      if 1 < v1 then
        m_askValues_68 d q1.2 v1 v2 v3 q1.1 v2 v3
      else
        m_askValues_68 d q1.2 v1 v2 v3 q1.1 0 v3
  else
    some (0, σ) :=
  ga_blk_eq am_G (am_run d) mt_m_askValues 15 41 [(0, 12, 0), (1, 0, v1), (2, 0, v2), (3, 0, v3)] [] σ
set_option maxRecDepth 100000 in
theorem e_m_askValues_28 (d : Nat) (σ : ga_S) (v1 v3 s0 s1 : Int) : m_askValues_28 d σ v1 v3 s0 s1 = m_askValues_4 d σ v1 (w32 (s1 + s0)) (w32 (v3 + 1)) :=
  ga_blk_eq am_G (am_run d) mt_m_askValues 4 28 [(0, 12, 0), (1, 0, v1), (3, 0, v3)] [(0, s0), (0, s1)] σ
set_option maxRecDepth 100000 in
theorem e_m_askValues_68 (d : Nat) (σ : ga_S) (v1 v2 v3 v4 s0 s1 : Int) : m_askValues_68 d σ v1 v2 v3 v4 s0 s1 = (c_m_mustBeNew d σ s1 s0 8).bind fun q2 =>
    if v4 = 0 then
      m_askValues_84 d q2.2 v1 v3 0 v2
    else
      m_askValues_84 d q2.2 v1 v3 1 v2 :=
  ga_blk_eq am_G (am_run d) mt_m_askValues 7 68 [(0, 12, 0), (1, 0, v1), (2, 0, v2), (3, 0, v3), (4, 0, v4)] [(0, s0), (0, s1), (12, 0)] σ
set_option maxRecDepth 100000 in
theorem e_m_askValues_84 (d : Nat) (σ : ga_S) (v1 v3 s0 s1 : Int) : m_askValues_84 d σ v1 v3 s0 s1 = m_askValues_41 d σ v1 (w32 (s1 + s0)) (w32 (v3 + 1)) :=
  ga_blk_eq am_G (am_run d) mt_m_askValues 4 84 [(0, 12, 0), (1, 0, v1), (3, 0, v3)] [(0, s0), (0, s1)] σ
set_option maxRecDepth 100000 in
theorem e_m_askSaying (d : Nat) (σ : ga_S) (a1 : Int) : c_m_askSaying (d + 1) σ a1 = m_askSaying_2 d σ a1 a1 :=
  ga_blk_eq am_G (am_run d) mt_m_askSaying 2 0 [(0, 12, 0), (1, 0, a1)] [] σ
set_option maxRecDepth 100000 in
theorem e_m_askSaying_2 (d : Nat) (σ : ga_S) (v1 v2 : Int) : m_askSaying_2 d σ v1 v2 = ga_ck v2 5002 (if (σ fM_token 0 v2) = 46 then
      m_askSaying_27 d σ v1 v2 0 1 v1
    else
      m_askSaying_2 d σ v1 (w32 (v2 + 1))) :=
  ga_blk_eq am_G (am_run d) mt_m_askSaying 12 2 [(0, 12, 0), (1, 0, v1), (2, 0, v2)] [] σ
set_option maxRecDepth 100000 in
theorem e_m_askSaying_27 (d : Nat) (σ : ga_S) (v1 v2 v3 v4 v5 : Int) : m_askSaying_27 d σ v1 v2 v3 v4 v5 = if v5 < v2 then
    ga_ck v5 5002 (if (σ fM_token 0 v5) = 3 then
        if v4 = 0 then
          m_askSaying_60 d σ v1 v2 v3 v4 v5 9 1 v5
        else
          m_askSaying_60 d σ v1 v2 v3 v4 v5 10 1 v5
      else
        m_askSaying_67 d σ v1 v2 v3 v4 v5 (-1))
  else
    if 0 < v3 then
      m_askSaying_249 d σ v1 v3 1
    else
      m_askSaying_249 d σ v1 v3 0 :=
  ga_blk_eq am_G (am_run d) mt_m_askSaying 16 27 [(0, 12, 0), (1, 0, v1), (2, 0, v2), (3, 0, v3), (4, 0, v4), (5, 0, v5)] [] σ
set_option maxRecDepth 100000 in
theorem e_m_askSaying_249 (d : Nat) (σ : ga_S) (v1 v3 s0 : Int) : m_askSaying_249 d σ v1 v3 s0 = (c_m_need d σ s0 4 v1).bind fun q1 =>
    if v3 < 2 then
      m_askSaying_265 d q1.2 v1 1
    else
      m_askSaying_265 d q1.2 v1 0 :=
  ga_blk_eq am_G (am_run d) mt_m_askSaying 9 249 [(0, 12, 0), (1, 0, v1), (3, 0, v3)] [(0, s0), (12, 0)] σ
set_option maxRecDepth 100000 in
theorem e_m_askSaying_67 (d : Nat) (σ : ga_S) (v1 v2 v3 v4 v5 s0 : Int) : m_askSaying_67 d σ v1 v2 v3 v4 v5 s0 = if s0 = (-1) then
    m_askSaying_197 d σ v1 v2 v3 v4 v5
  else
    if v1 < v5 then
      if (w32 (v5 + 1)) < v2 then
        ga_ck s0 8 (if v3 = 0 then
            m_askSaying_117a d σ v1 v2 v3 v4 v5 (σ fM_verbRelation 0 s0) v5 v1
          else
            m_askSaying_117 d σ v1 v2 v3 v4 v5 (σ fM_verbRelation 0 s0) v5 v1)
      else
        m_askSaying_197 d σ v1 v2 v3 v4 v5
    else
      m_askSaying_197 d σ v1 v2 v3 v4 v5 :=
  ga_blk_eq am_G (am_run d) mt_m_askSaying 25 67 [(0, 12, 0), (1, 0, v1), (2, 0, v2), (3, 0, v3), (4, 0, v4), (5, 0, v5)] [(0, s0)] σ
set_option maxRecDepth 100000 in
theorem e_m_askSaying_60 (d : Nat) (σ : ga_S) (v1 v2 v3 v4 v5 s0 s1 s2 : Int) : m_askSaying_60 d σ v1 v2 v3 v4 v5 s0 s1 s2 = (c_m_means d σ s2 s1 s0).bind fun q2 =>
    m_askSaying_67 d q2.2 v1 v2 v3 v4 v5 q2.1 :=
  ga_blk_eq am_G (am_run d) mt_m_askSaying 2 60 [(0, 12, 0), (1, 0, v1), (2, 0, v2), (3, 0, v3), (4, 0, v4), (5, 0, v5)] [(0, s0), (0, s1), (0, s2), (12, 0)] σ
set_option maxRecDepth 100000 in
theorem e_m_askSaying_265 (d : Nat) (σ : ga_S) (v1 s0 : Int) : m_askSaying_265 d σ v1 s0 = (c_m_need d σ s0 7 v1).bind fun q3 =>
    some (0, q3.2) :=
  ga_blk_eq am_G (am_run d) mt_m_askSaying 4 265 [(1, 0, v1)] [(0, s0), (12, 0)] σ
set_option maxRecDepth 100000 in
theorem e_m_askSaying_197 (d : Nat) (σ : ga_S) (v1 v2 v3 v4 v5 : Int) : m_askSaying_197 d σ v1 v2 v3 v4 v5 = if v4 = 0 then
    m_askSaying_230 d σ v1 v2 v3 v5
  else
    ga_ck v5 5002 (if (σ fM_token 0 v5) = 116 then
        m_askSaying_230 d σ v1 v2 v3 v5
      else
        ga_ck v5 5002 (if (σ fM_token 0 v5) = 44 then
            m_askSaying_230 d σ v1 v2 v3 v5
          else
            m_askSaying_231 d σ v1 v2 v3 v5 1)) :=
  ga_blk_eq am_G (am_run d) mt_m_askSaying 16 197 [(0, 12, 0), (1, 0, v1), (2, 0, v2), (3, 0, v3), (4, 0, v4), (5, 0, v5)] [] σ
set_option maxRecDepth 100000 in
theorem e_m_askSaying_117 (d : Nat) (σ : ga_S) (v1 v2 v3 v4 v5 v7 s1 s2 : Int) : m_askSaying_117 d σ v1 v2 v3 v4 v5 v7 s1 s2 = ga_ck v7 6 ((c_m_listOf_spare d σ s2 s1 (σ fM_relates 0 v7)).bind fun q4 =>
      if v3 = 0 then
        m_askSaying_150a d q4.2 v1 v2 v3 v4 v5 v7 q4.1 v2 (w32 (v5 + 1))
      else
        m_askSaying_150 d q4.2 v1 v2 v3 v4 v5 v7 q4.1 v2 (w32 (v5 + 1))) :=
  ga_blk_eq am_G (am_run d) mt_m_askSaying 16 117 [(0, 12, 0), (1, 0, v1), (2, 0, v2), (3, 0, v3), (4, 0, v4), (5, 0, v5), (7, 0, v7)] [(176, 0), (0, s1), (0, s2), (12, 0)] σ
set_option maxRecDepth 100000 in
theorem e_m_askSaying_117a (d : Nat) (σ : ga_S) (v1 v2 v3 v4 v5 v7 s1 s2 : Int) : m_askSaying_117a d σ v1 v2 v3 v4 v5 v7 s1 s2 = ga_ck v7 6 ((c_m_listOf_aheadObjects d σ s2 s1 (σ fM_relates 0 v7)).bind fun q5 =>
      if v3 = 0 then
        m_askSaying_150a d q5.2 v1 v2 v3 v4 v5 v7 q5.1 v2 (w32 (v5 + 1))
      else
        m_askSaying_150 d q5.2 v1 v2 v3 v4 v5 v7 q5.1 v2 (w32 (v5 + 1))) :=
  ga_blk_eq am_G (am_run d) mt_m_askSaying 16 117 [(0, 12, 0), (1, 0, v1), (2, 0, v2), (3, 0, v3), (4, 0, v4), (5, 0, v5), (7, 0, v7)] [(174, 0), (0, s1), (0, s2), (12, 0)] σ
set_option maxRecDepth 100000 in
theorem e_m_askSaying_230 (d : Nat) (σ : ga_S) (v1 v2 v3 v5 : Int) : m_askSaying_230 d σ v1 v2 v3 v5 = m_askSaying_231 d σ v1 v2 v3 v5 0 :=
  ga_blk_eq am_G (am_run d) mt_m_askSaying 1 230 [(0, 12, 0), (1, 0, v1), (2, 0, v2), (3, 0, v3), (5, 0, v5)] [] σ
set_option maxRecDepth 100000 in
theorem e_m_askSaying_231 (d : Nat) (σ : ga_S) (v1 v2 v3 v5 s0 : Int) : m_askSaying_231 d σ v1 v2 v3 v5 s0 = m_askSaying_27 d σ v1 v2 v3 s0 (w32 (v5 + 1)) :=
  ga_blk_eq am_G (am_run d) mt_m_askSaying 3 231 [(0, 12, 0), (1, 0, v1), (2, 0, v2), (3, 0, v3), (5, 0, v5)] [(0, s0)] σ
set_option maxRecDepth 100000 in
theorem e_m_askSaying_150 (d : Nat) (σ : ga_S) (v1 v2 v3 v4 v5 v7 v8 s1 s2 : Int) : m_askSaying_150 d σ v1 v2 v3 v4 v5 v7 v8 s1 s2 = ga_ck v7 6 ((c_m_listOf_spare d σ s2 s1 (σ fM_relatesTo 0 v7)).bind fun q6 =>
      if 0 < v8 then
        if 0 < q6.1 then
          if v3 = 0 then
            m_askSaying_194 d (ga_up (ga_up (ga_up q6.2 fM_aheadCount 0 0 v8) fM_behindCount 0 0 q6.1) fM_saidRelation 0 0 v7) v1 v2 v3 v4 v5
          else
            m_askSaying_194 d q6.2 v1 v2 v3 v4 v5
        else
          m_askSaying_197 d q6.2 v1 v2 v3 v4 v5
      else
        m_askSaying_197 d q6.2 v1 v2 v3 v4 v5) :=
  ga_blk_eq am_G (am_run d) mt_m_askSaying 21 150 [(0, 12, 0), (1, 0, v1), (2, 0, v2), (3, 0, v3), (4, 0, v4), (5, 0, v5), (7, 0, v7), (8, 0, v8)] [(176, 0), (0, s1), (0, s2), (12, 0)] σ
set_option maxRecDepth 100000 in
theorem e_m_askSaying_150a (d : Nat) (σ : ga_S) (v1 v2 v3 v4 v5 v7 v8 s1 s2 : Int) : m_askSaying_150a d σ v1 v2 v3 v4 v5 v7 v8 s1 s2 = ga_ck v7 6 ((c_m_listOf_behindObjects d σ s2 s1 (σ fM_relatesTo 0 v7)).bind fun q7 =>
      if 0 < v8 then
        if 0 < q7.1 then
          if v3 = 0 then
            m_askSaying_194 d (ga_up (ga_up (ga_up q7.2 fM_aheadCount 0 0 v8) fM_behindCount 0 0 q7.1) fM_saidRelation 0 0 v7) v1 v2 v3 v4 v5
          else
            m_askSaying_194 d q7.2 v1 v2 v3 v4 v5
        else
          m_askSaying_197 d q7.2 v1 v2 v3 v4 v5
      else
        m_askSaying_197 d q7.2 v1 v2 v3 v4 v5) :=
  ga_blk_eq am_G (am_run d) mt_m_askSaying 21 150 [(0, 12, 0), (1, 0, v1), (2, 0, v2), (3, 0, v3), (4, 0, v4), (5, 0, v5), (7, 0, v7), (8, 0, v8)] [(175, 0), (0, s1), (0, s2), (12, 0)] σ
set_option maxRecDepth 100000 in
theorem e_m_askSaying_194 (d : Nat) (σ : ga_S) (v1 v2 v3 v4 v5 : Int) : m_askSaying_194 d σ v1 v2 v3 v4 v5 = m_askSaying_197 d σ v1 v2 (w32 (v3 + 1)) v4 v5 :=
  ga_blk_eq am_G (am_run d) mt_m_askSaying 1 194 [(0, 12, 0), (1, 0, v1), (2, 0, v2), (3, 0, v3), (4, 0, v4), (5, 0, v5)] [] σ
set_option maxRecDepth 100000 in
theorem e_m_isCommand (d : Nat) (σ : ga_S) (a1 a2 : Int) : c_m_isCommand (d + 1) σ a1 a2 = m_isCommand_23 d (ga_up (ga_up σ fM_newSize 0 0 0) fM_slotWords 0 0 0) a1 (w32 (a1 + a2)) 1 1 :=
  ga_blk_eq am_G (am_run d) mt_m_isCommand 16 0 [(0, 12, 0), (1, 0, a1), (2, 0, a2)] [] σ
set_option maxRecDepth 100000 in
theorem e_m_isCommand_23 (d : Nat) (σ : ga_S) (v3 v4 v5 v6 : Int) : m_isCommand_23 d σ v3 v4 v5 v6 = if v5 = 0 then
    m_isCommand_272 d σ v5
  else
    if v3 < v4 then
      ga_ck v3 5000 (if (σ fM_story 0 v3) = 32 then
          m_isCommand_23 d σ (w32 (v3 + 1)) v4 v5 1
        else
          if v6 = 0 then
            m_isCommand_68 d σ v3 v4 v6
          else
            if (σ fM_newSize 0 0) = 8 then
              m_isCommand_68 d σ v3 v4 v6
            else
              ga_ck v3 5000 ((c_m_isLetter d σ (σ fM_story 0 v3)).bind fun q1 =>
                  if q1.1 = 0 then
                    ga_ck v3 5000 (if (q1.2 fM_story 0 v3) = 91 then
                        if (q1.2 fM_slotWords 0 0) = 0 then
                          m_isCommand_203 d q1.2 v3 v4 1
                        else
                          m_isCommand_202 d q1.2 v3 v4
                      else
                        m_isCommand_202 d q1.2 v3 v4)
                  else
                    m_isCommand_89 d q1.2 v3 v4 v3))
    else
      m_isCommand_272 d σ v5 :=
  ga_blk_eq am_G (am_run d) mt_m_isCommand 34 23 [(0, 12, 0), (3, 0, v3), (4, 0, v4), (5, 0, v5), (6, 0, v6)] [] σ
set_option maxRecDepth 100000 in
theorem e_m_isCommand_272 (d : Nat) (σ : ga_S) (v5 : Int) : m_isCommand_272 d σ v5 = if v5 = 0 then
    some (0, σ)
  else
    if 0 < (σ fM_newSize 0 0) then
      some (1, σ)
    else
      some (0, σ) :=
  ga_blk_eq am_G (am_run d) mt_m_isCommand 8 272 [(0, 12, 0), (5, 0, v5)] [] σ
set_option maxRecDepth 100000 in
theorem e_m_isCommand_68 (d : Nat) (σ : ga_S) (v3 v4 v6 : Int) : m_isCommand_68 d σ v3 v4 v6 = m_isCommand_23 d σ v3 v4 0 v6 :=
  ga_blk_eq am_G (am_run d) mt_m_isCommand 3 68 [(0, 12, 0), (3, 0, v3), (4, 0, v4), (6, 0, v6)] [] σ
set_option maxRecDepth 100000 in
theorem e_m_isCommand_202 (d : Nat) (σ : ga_S) (v3 v4 : Int) : m_isCommand_202 d σ v3 v4 = m_isCommand_203 d σ v3 v4 0 :=
  ga_blk_eq am_G (am_run d) mt_m_isCommand 1 202 [(0, 12, 0), (3, 0, v3), (4, 0, v4)] [] σ
set_option maxRecDepth 100000 in
theorem e_m_isCommand_203 (d : Nat) (σ : ga_S) (v3 v4 s0 : Int) : m_isCommand_203 d σ v3 v4 s0 = if s0 = 0 then
    m_isCommand_223 d σ v4 s0 v3
  else
    (c_m_slot d σ (w32 (v3 + 1)) v4).bind fun q2 =>
      m_isCommand_223 d q2.2 v4 s0 q2.1 :=
  ga_blk_eq am_G (am_run d) mt_m_isCommand 10 203 [(0, 12, 0), (3, 0, v3), (4, 0, v4)] [(0, s0)] σ
set_option maxRecDepth 100000 in
theorem e_m_isCommand_89 (d : Nat) (σ : ga_S) (v3 v4 v7 : Int) : m_isCommand_89 d σ v3 v4 v7 = if v7 < v4 then
    ga_ck v7 5000 ((c_m_isLetter d σ (σ fM_story 0 v7)).bind fun q3 =>
        if q3.1 = 0 then
          m_isCommand_115 d q3.2 v3 v4 v7
        else
          m_isCommand_89 d q3.2 v3 v4 (w32 (v7 + 1)))
  else
    m_isCommand_115 d σ v3 v4 v7 :=
  ga_blk_eq am_G (am_run d) mt_m_isCommand 11 89 [(0, 12, 0), (3, 0, v3), (4, 0, v4), (7, 0, v7)] [] σ
set_option maxRecDepth 100000 in
theorem e_m_isCommand_223 (d : Nat) (σ : ga_S) (v4 v5 s0 : Int) : m_isCommand_223 d σ v4 v5 s0 = if v5 = 0 then
    m_isCommand_238 d σ s0 v4
  else
    if s0 = (-1) then
      m_isCommand_238 d σ s0 v4
    else
      m_isCommand_239 d σ s0 v4 1 :=
  ga_blk_eq am_G (am_run d) mt_m_isCommand 8 223 [(0, 12, 0), (4, 0, v4), (5, 0, v5)] [(0, s0)] σ
set_option maxRecDepth 100000 in
theorem e_m_isCommand_115 (d : Nat) (σ : ga_S) (v3 v4 v7 : Int) : m_isCommand_115 d σ v3 v4 v7 = if 12 < (w32 (v7 - v3)) then
    m_isCommand_129 d σ v3 v4 v7 0
  else
    m_isCommand_129 d σ v3 v4 v7 1 :=
  ga_blk_eq am_G (am_run d) mt_m_isCommand 7 115 [(0, 12, 0), (3, 0, v3), (4, 0, v4), (7, 0, v7)] [] σ
set_option maxRecDepth 100000 in
theorem e_m_isCommand_238 (d : Nat) (σ : ga_S) (v3 v4 : Int) : m_isCommand_238 d σ v3 v4 = m_isCommand_239 d σ v3 v4 0 :=
  ga_blk_eq am_G (am_run d) mt_m_isCommand 1 238 [(0, 12, 0), (3, 0, v3), (4, 0, v4)] [] σ
set_option maxRecDepth 100000 in
theorem e_m_isCommand_239 (d : Nat) (σ : ga_S) (v3 v4 s0 : Int) : m_isCommand_239 d σ v3 v4 s0 = (p_min d σ 7 (σ fM_newSize 0 0)).bind fun q4 =>
    ga_ck q4.1 8 (m_isCommand_23 d (ga_up (ga_up q4.2 fM_newWord 0 q4.1 0) fM_newSize 0 0 (w32 ((q4.2 fM_newSize 0 0) + 1))) v3 v4 s0 0) :=
  ga_blk_eq am_G (am_run d) mt_m_isCommand 18 239 [(0, 12, 0), (3, 0, v3), (4, 0, v4)] [(0, s0)] σ
set_option maxRecDepth 100000 in
theorem e_m_isCommand_129 (d : Nat) (σ : ga_S) (v3 v4 v7 s0 : Int) : m_isCommand_129 d σ v3 v4 v7 s0 = if s0 = 0 then
    m_isCommand_160 d σ v4 s0 v7 0 (σ fM_newSize 0 0)
  else
    (c_m_wordOf_story d σ v3 (w32 (v7 - v3))).bind fun q5 =>
      m_isCommand_160 d q5.2 v4 s0 v7 q5.1 (σ fM_newSize 0 0) :=
  ga_blk_eq am_G (am_run d) mt_m_isCommand 15 129 [(0, 12, 0), (3, 0, v3), (4, 0, v4), (7, 0, v7)] [(0, s0)] σ
set_option maxRecDepth 100000 in
theorem e_m_isCommand_160 (d : Nat) (σ : ga_S) (v4 v5 v7 s0 s1 : Int) : m_isCommand_160 d σ v4 v5 v7 s0 s1 = ga_ck s1 8 (m_isCommand_23 d (ga_up (ga_up σ fM_newWord 0 s1 s0) fM_newSize 0 0 (w32 ((σ fM_newSize 0 0) + 1))) v7 v4 v5 0) :=
  ga_blk_eq am_G (am_run d) mt_m_isCommand 12 160 [(0, 12, 0), (4, 0, v4), (5, 0, v5), (7, 0, v7)] [(1, s0), (0, s1), (178, 0)] σ
set_option maxRecDepth 100000 in
theorem e_m_slot (d : Nat) (σ : ga_S) (a1 a2 : Int) : c_m_slot (d + 1) σ a1 a2 = m_slot_2 d σ a2 a1 :=
  ga_blk_eq am_G (am_run d) mt_m_slot 2 0 [(0, 12, 0), (1, 0, a1), (2, 0, a2)] [] σ
set_option maxRecDepth 100000 in
theorem e_m_slot_2 (d : Nat) (σ : ga_S) (v2 v3 : Int) : m_slot_2 d σ v2 v3 = if v3 < v2 then
    ga_ck v3 5000 (if (σ fM_story 0 v3) = 93 then
        m_slot_153 d σ v2 v3
      else
        ga_ck v3 5000 (if (σ fM_story 0 v3) = 32 then
            m_slot_2 d σ v2 (w32 (v3 + 1))
          else
            ga_ck v3 5000 ((c_m_isLetter d σ (σ fM_story 0 v3)).bind fun q1 =>
                if q1.1 = 0 then
                  some ((-1), q1.2)
                else
                  m_slot_50 d q1.2 v2 v3 v3)))
  else
    m_slot_153 d σ v2 v3 :=
  ga_blk_eq am_G (am_run d) mt_m_slot 23 2 [(0, 12, 0), (2, 0, v2), (3, 0, v3)] [] σ
set_option maxRecDepth 100000 in
theorem e_m_slot_153 (d : Nat) (σ : ga_S) (v2 v3 : Int) : m_slot_153 d σ v2 v3 = if v3 < v2 then
    if 0 < (σ fM_slotWords 0 0) then
      some ((w32 (v3 + 1)), σ)
    else
      some ((-1), σ)
  else
    some ((-1), σ) :=
  ga_blk_eq am_G (am_run d) mt_m_slot 11 153 [(0, 12, 0), (2, 0, v2), (3, 0, v3)] [] σ
set_option maxRecDepth 100000 in
theorem e_m_slot_50 (d : Nat) (σ : ga_S) (v2 v3 v4 : Int) : m_slot_50 d σ v2 v3 v4 = if v4 < v2 then
    ga_ck v4 5000 ((c_m_isLetter d σ (σ fM_story 0 v4)).bind fun q2 =>
        if q2.1 = 0 then
          m_slot_75 d q2.2 v2 v3 v4
        else
          m_slot_50 d q2.2 v2 v3 (w32 (v4 + 1)))
  else
    m_slot_75 d σ v2 v3 v4 :=
  ga_blk_eq am_G (am_run d) mt_m_slot 11 50 [(0, 12, 0), (2, 0, v2), (3, 0, v3), (4, 0, v4)] [] σ
set_option maxRecDepth 100000 in
theorem e_m_slot_75 (d : Nat) (σ : ga_S) (v2 v3 v4 : Int) : m_slot_75 d σ v2 v3 v4 = if 12 < (w32 (v4 - v3)) then
    some ((-1), σ)
  else
    (c_m_wordOf_story d σ v3 (w32 (v4 - v3))).bind fun q3 =>
      (c_m_keyOf d q3.2 q3.1).bind fun q4 =>
        if q4.1 = 3 then
          if (q4.2 fM_slotWords 0 0) < 3 then
            (c_m_wordOf_story d q4.2 v3 (w32 (v4 - v3))).bind fun q5 =>
              ga_ck (q4.2 fM_slotWords 0 0) 3 (m_slot_135 d (ga_up q5.2 fM_slotWord 0 (q4.2 fM_slotWords 0 0) q5.1) v2 v4)
          else
            m_slot_135 d q4.2 v2 v4
        else
          some ((-1), q4.2) :=
  ga_blk_eq am_G (am_run d) mt_m_slot 32 75 [(0, 12, 0), (2, 0, v2), (3, 0, v3), (4, 0, v4)] [] σ
set_option maxRecDepth 100000 in
theorem e_m_slot_135 (d : Nat) (σ : ga_S) (v2 v4 : Int) : m_slot_135 d σ v2 v4 = m_slot_2 d (ga_up σ fM_slotWords 0 0 (w32 ((σ fM_slotWords 0 0) + 1))) v2 v4 :=
  ga_blk_eq am_G (am_run d) mt_m_slot 9 135 [(0, 12, 0), (2, 0, v2), (4, 0, v4)] [] σ
set_option maxRecDepth 100000 in
theorem e_m_askCommand (d : Nat) (σ : ga_S) : c_m_askCommand (d + 1) σ = if (σ fM_commands 0 0) < 20 then
    m_askCommand_15 d σ 1
  else
    m_askCommand_15 d σ 0 :=
  ga_blk_eq am_G (am_run d) mt_m_askCommand 7 0 [(0, 12, 0)] [] σ
set_option maxRecDepth 100000 in
theorem e_m_askCommand_15 (d : Nat) (σ : ga_S) (s0 : Int) : m_askCommand_15 d σ s0 = (c_m_need d σ s0 9 (σ fM_textAt 0 0)).bind fun q1 =>
    ga_ck (q1.2 fM_textAt 0 0) 5002 (ga_ck (q1.2 fM_textAt 0 0) 5002 ((c_m_isCommand d q1.2 (w32 ((q1.2 fM_place 0 (q1.2 fM_textAt 0 0)) + 1)) (q1.2 fM_length 0 (q1.2 fM_textAt 0 0))).bind fun q2 =>
          (c_m_meansRun d q2.2 0 11).bind fun q3 =>
            if q3.1 = (-1) then
              m_askCommand_68 d q3.2 q2.1 q3.1 0
            else
              m_askCommand_68 d q3.2 q2.1 q3.1 1)) :=
  ga_blk_eq am_G (am_run d) mt_m_askCommand 30 15 [(0, 12, 0)] [(0, s0), (12, 0)] σ
set_option maxRecDepth 100000 in
theorem e_m_askCommand_68 (d : Nat) (σ : ga_S) (v1 v2 s0 : Int) : m_askCommand_68 d σ v1 v2 s0 = (c_m_need d σ s0 4 (σ fM_runFrom 0 0)).bind fun q4 =>
    if v1 = 0 then
      m_askCommand_295 d (ga_up q4.2 fM_newKind 0 0 (-1)) v1
    else
      if v2 = (-1) then
        m_askCommand_295 d (ga_up q4.2 fM_newKind 0 0 (-1)) v1
      else
        ga_ck v2 12 (if (q4.2 fM_actionKind 0 v2) = (-1) then
            if (q4.2 fM_slotWords 0 0) = 0 then
              m_askCommand_114 d (ga_up q4.2 fM_newKind 0 0 (-1)) 1
            else
              m_askCommand_114 d (ga_up q4.2 fM_newKind 0 0 (-1)) 0
          else
            ga_ck v2 12 (if (q4.2 fM_actionKind 0 v2) = (-2) then
                if (q4.2 fM_slotWords 0 0) = 1 then
                  (c_m_packed d (ga_up q4.2 fM_newKind 0 0 (-1)) 30).bind fun q5 =>
                    if (ga_lcmp (q4.2 fM_slotWord 0 0) q5.1) = 0 then
                      m_askCommand_158 d q5.2 1
                    else
                      m_askCommand_157 d q5.2
                else
                  m_askCommand_157 d (ga_up q4.2 fM_newKind 0 0 (-1))
              else
                if 3 < (q4.2 fM_slotWords 0 0) then
                  m_askCommand_183 d (ga_up q4.2 fM_newKind 0 0 (-1)) v2
                else
                  if (q4.2 fM_slotWords 0 0) = 0 then
                    m_askCommand_183 d (ga_up q4.2 fM_newKind 0 0 (-1)) v2
                  else
                    if 1 < (q4.2 fM_slotWords 0 0) then
                      m_askCommand_212 d (ga_up q4.2 fM_newKind 0 0 (-1)) v2 (q4.2 fM_slotWord 0 1) (q4.2 fM_slotWord 0 0)
                    else
                      m_askCommand_212 d (ga_up q4.2 fM_newKind 0 0 (-1)) v2 0 (q4.2 fM_slotWord 0 0))) :=
  ga_blk_eq am_G (am_run d) mt_m_askCommand 47 68 [(0, 12, 0), (1, 0, v1), (2, 0, v2)] [(0, s0), (12, 0)] σ
set_option maxRecDepth 100000 in
theorem e_m_askCommand_295 (d : Nat) (σ : ga_S) (v1 : Int) : m_askCommand_295 d σ v1 = (c_m_need d σ v1 8 (σ fM_textAt 0 0)).bind fun q6 =>
    some (0, q6.2) :=
  ga_blk_eq am_G (am_run d) mt_m_askCommand 7 295 [(0, 12, 0), (1, 0, v1)] [] σ
set_option maxRecDepth 100000 in
theorem e_m_askCommand_183 (d : Nat) (σ : ga_S) (v2 : Int) : m_askCommand_183 d σ v2 = m_askCommand_237 d σ v2 (-1) :=
  ga_blk_eq am_G (am_run d) mt_m_askCommand 2 183 [(0, 12, 0), (2, 0, v2)] [] σ
set_option maxRecDepth 100000 in
theorem e_m_askCommand_212 (d : Nat) (σ : ga_S) (v2 s0 s1 : Int) : m_askCommand_212 d σ v2 s0 s1 = if 2 < (σ fM_slotWords 0 0) then
    m_askCommand_230 d σ v2 (σ fM_slotWord 0 2) s0 s1
  else
    m_askCommand_230 d σ v2 0 s0 s1 :=
  ga_blk_eq am_G (am_run d) mt_m_askCommand 9 212 [(0, 12, 0), (2, 0, v2)] [(1, s0), (1, s1), (12, 0)] σ
set_option maxRecDepth 100000 in
theorem e_m_askCommand_157 (d : Nat) (σ : ga_S) : m_askCommand_157 d σ = m_askCommand_158 d σ 0 :=
  ga_blk_eq am_G (am_run d) mt_m_askCommand 1 157 [(0, 12, 0)] [] σ
set_option maxRecDepth 100000 in
theorem e_m_askCommand_158 (d : Nat) (σ : ga_S) (s0 : Int) : m_askCommand_158 d σ s0 = m_askCommand_295 d (ga_up σ fM_newKind 0 0 (-2)) s0 :=
  ga_blk_eq am_G (am_run d) mt_m_askCommand 5 158 [(0, 12, 0)] [(0, s0)] σ
set_option maxRecDepth 100000 in
theorem e_m_askCommand_114 (d : Nat) (σ : ga_S) (s0 : Int) : m_askCommand_114 d σ s0 = m_askCommand_295 d σ s0 :=
  ga_blk_eq am_G (am_run d) mt_m_askCommand 2 114 [(0, 12, 0)] [(0, s0)] σ
set_option maxRecDepth 100000 in
theorem e_m_askCommand_237 (d : Nat) (σ : ga_S) (v2 s0 : Int) : m_askCommand_237 d σ v2 s0 = if s0 = (-1) then
    m_askCommand_275 d σ s0
  else
    ga_ck s0 300 (if (σ fM_lexSort 0 s0) = 0 then
        ga_ck s0 300 (ga_ck v2 12 ((c_m_isBelow d σ (σ fM_lexIndex 0 s0) (σ fM_actionKind 0 v2)).bind fun q7 =>
              if q7.1 = 0 then
                m_askCommand_275 d q7.2 s0
              else
                m_askCommand_276 d q7.2 s0 1))
      else
        m_askCommand_275 d σ s0) :=
  ga_blk_eq am_G (am_run d) mt_m_askCommand 22 237 [(0, 12, 0), (2, 0, v2)] [(0, s0)] σ
set_option maxRecDepth 100000 in
theorem e_m_askCommand_230 (d : Nat) (σ : ga_S) (v2 s0 s1 s2 : Int) : m_askCommand_230 d σ v2 s0 s1 s2 = (c_m_find d σ s2 s1 s0 (σ fM_slotWords 0 0)).bind fun q8 =>
    m_askCommand_237 d q8.2 v2 q8.1 :=
  ga_blk_eq am_G (am_run d) mt_m_askCommand 3 230 [(0, 12, 0), (2, 0, v2)] [(1, s0), (1, s1), (1, s2), (12, 0)] σ
set_option maxRecDepth 100000 in
theorem e_m_askCommand_275 (d : Nat) (σ : ga_S) (v3 : Int) : m_askCommand_275 d σ v3 = m_askCommand_276 d σ v3 0 :=
  ga_blk_eq am_G (am_run d) mt_m_askCommand 1 275 [(0, 12, 0), (3, 0, v3)] [] σ
set_option maxRecDepth 100000 in
theorem e_m_askCommand_276 (d : Nat) (σ : ga_S) (v3 s0 : Int) : m_askCommand_276 d σ v3 s0 = if s0 = 0 then
    m_askCommand_292 d σ s0 (-1)
  else
    ga_ck v3 300 (m_askCommand_292 d σ s0 (σ fM_lexIndex 0 v3)) :=
  ga_blk_eq am_G (am_run d) mt_m_askCommand 9 276 [(0, 12, 0), (3, 0, v3)] [(0, s0)] σ
set_option maxRecDepth 100000 in
theorem e_m_askCommand_292 (d : Nat) (σ : ga_S) (v1 s0 : Int) : m_askCommand_292 d σ v1 s0 = m_askCommand_295 d (ga_up σ fM_newKind 0 0 s0) v1 :=
  ga_blk_eq am_G (am_run d) mt_m_askCommand 1 292 [(0, 12, 0), (1, 0, v1)] [(0, s0), (12, 0)] σ
set_option maxRecDepth 100000 in
theorem e_m_wrong (d : Nat) (σ : ga_S) (a1 a2 : Int) : c_m_wrong (d + 1) σ a1 a2 = if (σ fM_bestFault 0 0) = 0 then
    ga_ck a2 5002 (some (0, (ga_up (ga_up σ fM_bestFault 0 0 a1) fM_bestPlace 0 0 (σ fM_place 0 a2))))
  else
    some (0, σ) :=
  ga_blk_eq am_G (am_run d) mt_m_wrong 13 0 [(0, 12, 0), (1, 0, a1), (2, 0, a2)] [] σ
set_option maxRecDepth 100000 in
theorem e_m_tellRun (d : Nat) (σ : ga_S) (a1 a2 a3 : Int) : c_m_tellRun (d + 1) σ a1 a2 a3 = ga_ck a3 2600 (ga_ck a3 2600 ((c_m_tellTokens d σ a1 a2 (σ fM_runFrom 0 a3) (σ fM_runSize 0 a3)).bind fun q1 =>
        some (0, q1.2))) :=
  ga_blk_eq am_G (am_run d) mt_m_tellRun 13 0 [(0, 12, 0), (1, 0, a1), (2, 0, a2), (3, 0, a3)] [] σ
set_option maxRecDepth 100000 in
theorem e_m_isSameText (d : Nat) (σ : ga_S) (a1 a2 a3 a4 : Int) : c_m_isSameText (d + 1) σ a1 a2 a3 a4 = if a2 = a4 then
    m_isSameText_11 d σ a1 a2 a3 1
  else
    m_isSameText_11 d σ a1 a2 a3 0 :=
  ga_blk_eq am_G (am_run d) mt_m_isSameText 5 0 [(0, 12, 0), (1, 0, a1), (2, 0, a2), (3, 0, a3), (4, 0, a4)] [] σ
set_option maxRecDepth 100000 in
theorem e_m_isSameText_11 (d : Nat) (σ : ga_S) (v1 v2 v3 s0 : Int) : m_isSameText_11 d σ v1 v2 v3 s0 = m_isSameText_16 d σ v1 v2 v3 s0 0 :=
  ga_blk_eq am_G (am_run d) mt_m_isSameText 3 11 [(0, 12, 0), (1, 0, v1), (2, 0, v2), (3, 0, v3)] [(0, s0)] σ
set_option maxRecDepth 100000 in
theorem e_m_isSameText_16 (d : Nat) (σ : ga_S) (v1 v2 v3 v5 v6 : Int) : m_isSameText_16 d σ v1 v2 v3 v5 v6 = if v6 < v2 then
    if v5 = 0 then
      ga_01 v5 (some (v5, σ))
    else
      ga_ck (w32 (v1 + v6)) 5000 (ga_ck (w32 (v3 + v6)) 5000 (if (σ fM_story 0 (w32 (v1 + v6))) = (σ fM_story 0 (w32 (v3 + v6))) then
            m_isSameText_53 d σ v1 v2 v3 v6 1
          else
            m_isSameText_53 d σ v1 v2 v3 v6 0))
  else
    ga_01 v5 (some (v5, σ)) :=
  ga_blk_eq am_G (am_run d) mt_m_isSameText 20 16 [(0, 12, 0), (1, 0, v1), (2, 0, v2), (3, 0, v3), (5, 0, v5), (6, 0, v6)] [] σ
set_option maxRecDepth 100000 in
theorem e_m_isSameText_53 (d : Nat) (σ : ga_S) (v1 v2 v3 v6 s0 : Int) : m_isSameText_53 d σ v1 v2 v3 v6 s0 = m_isSameText_16 d σ v1 v2 v3 s0 (w32 (v6 + 1)) :=
  ga_blk_eq am_G (am_run d) mt_m_isSameText 3 53 [(0, 12, 0), (1, 0, v1), (2, 0, v2), (3, 0, v3), (6, 0, v6)] [(0, s0)] σ
set_option maxRecDepth 100000 in
theorem e_m_tellsOtherwise (d : Nat) (σ : ga_S) (a1 a2 a3 a4 a5 : Int) : c_m_tellsOtherwise (d + 1) σ a1 a2 a3 a4 a5 = ga_ck a1 12 (if (σ fM_propertyType 0 a1) = 1 then
      (c_m_isSameText d σ a2 a3 a4 a5).bind fun q1 =>
        if q1.1 = 0 then
          some (1, q1.2)
        else
          some (0, q1.2)
    else
      if a2 = a4 then
        some (0, σ)
      else
        some (1, σ)) :=
  ga_blk_eq am_G (am_run d) mt_m_tellsOtherwise 16 0 [(0, 12, 0), (1, 0, a1), (2, 0, a2), (3, 0, a3), (4, 0, a4), (5, 0, a5)] [] σ
set_option maxRecDepth 100000 in
theorem e_m_tellObject (d : Nat) (σ : ga_S) (a1 a2 a3 a4 : Int) : c_m_tellObject (d + 1) σ a1 a2 a3 a4 = ga_ck (w32 ((w32 (12 * a1)) + a2)) 288 (if (σ fM_objectTold 0 (w32 ((w32 (12 * a1)) + a2))) = 0 then
      m_tellObject_45 d σ a3 a4 (w32 ((w32 (12 * a1)) + a2))
    else
      ga_ck (w32 ((w32 (12 * a1)) + a2)) 288 (ga_ck (w32 ((w32 (12 * a1)) + a2)) 288 ((c_m_tellsOtherwise d σ a2 (σ fM_objectSays 0 (w32 ((w32 (12 * a1)) + a2))) (σ fM_objectLong 0 (w32 ((w32 (12 * a1)) + a2))) a3 a4).bind fun q1 =>
            if q1.1 = 0 then
              m_tellObject_45 d q1.2 a3 a4 (w32 ((w32 (12 * a1)) + a2))
            else
              some (0, q1.2)))) :=
  ga_blk_eq am_G (am_run d) mt_m_tellObject 27 0 [(0, 12, 0), (1, 0, a1), (2, 0, a2), (3, 0, a3), (4, 0, a4)] [] σ
set_option maxRecDepth 100000 in
theorem e_m_tellObject_45 (d : Nat) (σ : ga_S) (v3 v4 v5 : Int) : m_tellObject_45 d σ v3 v4 v5 = ga_ck v5 288 (ga_ck v5 288 (ga_ck v5 288 (some (1, (ga_up (ga_up (ga_up σ fM_objectTold 0 v5 1) fM_objectSays 0 v5 v3) fM_objectLong 0 v5 v4))))) :=
  ga_blk_eq am_G (am_run d) mt_m_tellObject 17 45 [(0, 12, 0), (3, 0, v3), (4, 0, v4), (5, 0, v5)] [] σ
set_option maxRecDepth 100000 in
theorem e_m_tellKind (d : Nat) (σ : ga_S) (a1 a2 a3 a4 : Int) : c_m_tellKind (d + 1) σ a1 a2 a3 a4 = ga_ck (w32 ((w32 (12 * a1)) + a2)) 192 (if (σ fM_kindTold 0 (w32 ((w32 (12 * a1)) + a2))) = 0 then
      m_tellKind_45 d σ a3 a4 (w32 ((w32 (12 * a1)) + a2))
    else
      ga_ck (w32 ((w32 (12 * a1)) + a2)) 192 (ga_ck (w32 ((w32 (12 * a1)) + a2)) 192 ((c_m_tellsOtherwise d σ a2 (σ fM_kindSays 0 (w32 ((w32 (12 * a1)) + a2))) (σ fM_kindLong 0 (w32 ((w32 (12 * a1)) + a2))) a3 a4).bind fun q1 =>
            if q1.1 = 0 then
              m_tellKind_45 d q1.2 a3 a4 (w32 ((w32 (12 * a1)) + a2))
            else
              some (0, q1.2)))) :=
  ga_blk_eq am_G (am_run d) mt_m_tellKind 27 0 [(0, 12, 0), (1, 0, a1), (2, 0, a2), (3, 0, a3), (4, 0, a4)] [] σ
set_option maxRecDepth 100000 in
theorem e_m_tellKind_45 (d : Nat) (σ : ga_S) (v3 v4 v5 : Int) : m_tellKind_45 d σ v3 v4 v5 = ga_ck v5 192 (ga_ck v5 192 (ga_ck v5 192 (some (1, (ga_up (ga_up (ga_up σ fM_kindTold 0 v5 1) fM_kindSays 0 v5 v3) fM_kindLong 0 v5 v4))))) :=
  ga_blk_eq am_G (am_run d) mt_m_tellKind 17 45 [(0, 12, 0), (3, 0, v3), (4, 0, v4), (5, 0, v5)] [] σ
set_option maxRecDepth 100000 in
theorem e_m_tellRead (d : Nat) (σ : ga_S) (a1 a2 a3 : Int) : c_m_tellRead (d + 1) σ a1 a2 a3 = if a2 < 100 then
    (c_m_tellIs_objectIs d σ (w32 (24 * a1)) a2 a3).bind fun q2 =>
      ga_01 q2.1 (some (q2.1, q2.2))
  else
    (c_m_tellObject d σ a1 (w32 (Int.tmod a2 100)) (w32 ((w32 (Int.tdiv a2 100)) - 1)) 0).bind fun q1 =>
      ga_01 q1.1 (some (q1.1, q1.2)) :=
  ga_blk_eq am_G (am_run d) mt_m_tellRead 16 0 [(0, 12, 0), (1, 0, a1), (2, 0, a2), (3, 0, a3)] [] σ
set_option maxRecDepth 100000 in
theorem e_m_isWithin (d : Nat) (σ : ga_S) (a1 a2 : Int) : c_m_isWithin (d + 1) σ a1 a2 = m_isWithin_5 d σ a2 a1 0 :=
  ga_blk_eq am_G (am_run d) mt_m_isWithin 4 0 [(0, 12, 0), (1, 0, a1), (2, 0, a2)] [] σ
set_option maxRecDepth 100000 in
theorem e_m_isWithin_5 (d : Nat) (σ : ga_S) (v2 v3 v4 : Int) : m_isWithin_5 d σ v2 v3 v4 = if 24 < v4 then
    some (0, σ)
  else
    if v3 = (-1) then
      some (0, σ)
    else
      if v3 = v2 then
        some (1, σ)
      else
        ga_ck v3 24 (if (σ fM_way 0 v3) = 0 then
            m_isWithin_43 d σ v2 v4 (-1)
          else
            ga_ck v3 24 (m_isWithin_43 d σ v2 v4 (σ fM_there 0 v3))) :=
  ga_blk_eq am_G (am_run d) mt_m_isWithin 18 5 [(0, 12, 0), (2, 0, v2), (3, 0, v3), (4, 0, v4)] [] σ
set_option maxRecDepth 100000 in
theorem e_m_isWithin_43 (d : Nat) (σ : ga_S) (v2 v4 s0 : Int) : m_isWithin_43 d σ v2 v4 s0 = m_isWithin_5 d σ v2 s0 (w32 (v4 + 1)) :=
  ga_blk_eq am_G (am_run d) mt_m_isWithin 3 43 [(0, 12, 0), (2, 0, v2), (4, 0, v4)] [(0, s0)] σ
set_option maxRecDepth 100000 in
theorem e_m_placeObject (d : Nat) (σ : ga_S) (a1 a2 : Int) : c_m_placeObject (d + 1) σ a1 a2 = (c_m_meansRun d σ (σ fM_placeRun 0 0) 4).bind fun q1 =>
    ga_ck a1 24 ((c_m_isBelow d q1.2 (q1.2 fM_kindOf 0 a1) 0).bind fun q2 =>
        if q2.1 = 0 then
          m_placeObject_56 d q2.2 a2
        else
          ga_ck a1 24 (if (q2.2 fM_way 0 a1) = 0 then
              m_placeObject_65 d q2.2 a1 a2 q1.1
            else
              ga_ck a1 24 (if (q2.2 fM_way 0 a1) = (q2.2 fM_placeWay 0 0) then
                  ga_ck a1 24 (if (q2.2 fM_there 0 a1) = q1.1 then
                      m_placeObject_65 d q2.2 a1 a2 q1.1
                    else
                      m_placeObject_56 d q2.2 a2)
                else
                  m_placeObject_56 d q2.2 a2))) :=
  ga_blk_eq am_G (am_run d) mt_m_placeObject 32 0 [(0, 12, 0), (1, 0, a1), (2, 0, a2)] [] σ
set_option maxRecDepth 100000 in
theorem e_m_placeObject_56 (d : Nat) (σ : ga_S) (v2 : Int) : m_placeObject_56 d σ v2 = (c_m_wrong d σ 5 v2).bind fun q3 =>
    some (0, q3.2) :=
  ga_blk_eq am_G (am_run d) mt_m_placeObject 6 56 [(0, 12, 0), (2, 0, v2)] [] σ
set_option maxRecDepth 100000 in
theorem e_m_placeObject_65 (d : Nat) (σ : ga_S) (v1 v2 v3 : Int) : m_placeObject_65 d σ v1 v2 v3 = (c_m_isWithin d σ v3 v1).bind fun q4 =>
    if q4.1 = 0 then
      ga_ck v1 24 (ga_ck v1 24 (some (0, (ga_up (ga_up q4.2 fM_way 0 v1 (q4.2 fM_placeWay 0 0)) fM_there 0 v1 v3))))
    else
      (c_m_wrong d q4.2 6 v2).bind fun q5 =>
        some (0, q5.2) :=
  ga_blk_eq am_G (am_run d) mt_m_placeObject 17 65 [(0, 12, 0), (1, 0, v1), (2, 0, v2), (3, 0, v3)] [] σ
set_option maxRecDepth 100000 in
theorem e_m_objectTold (d : Nat) (σ : ga_S) (a1 a2 : Int) : c_m_objectTold (d + 1) σ a1 a2 = (c_m_meansRun d σ a1 4).bind fun q1 =>
    if q1.1 = (-1) then
      (c_m_addObject d q1.2 a2).bind fun q2 =>
        (c_m_tellRun d q2.2 4 q2.1 a1).bind fun q3 =>
          some (q2.1, q3.2)
    else
      some (q1.1, q1.2) :=
  ga_blk_eq am_G (am_run d) mt_m_objectTold 19 0 [(0, 12, 0), (1, 0, a1), (2, 0, a2)] [] σ
set_option maxRecDepth 100000 in
theorem e_m_doDescribed (d : Nat) (σ : ga_S) : c_m_doDescribed (d + 1) σ = m_doDescribed_2 d σ 0 :=
  ga_blk_eq am_G (am_run d) mt_m_doDescribed 2 0 [(0, 12, 0)] [] σ
set_option maxRecDepth 100000 in
theorem e_m_doDescribed_2 (d : Nat) (σ : ga_S) (v1 : Int) : m_doDescribed_2 d σ v1 = if v1 < (σ fM_listSize 0 0) then
    if (σ fM_bestFault 0 0) = 0 then
      if (σ fM_sort 0 0) = 13 then
        m_doDescribed_43 d σ v1 (w32 ((σ fM_listFrom 0 0) + v1)) 0 (w32 ((σ fM_listFrom 0 0) + v1))
      else
        m_doDescribed_43 d σ v1 (w32 ((σ fM_listFrom 0 0) + v1)) (σ fM_readKind 0 0) (w32 ((σ fM_listFrom 0 0) + v1))
    else
      some (0, σ)
  else
    some (0, σ) :=
  ga_blk_eq am_G (am_run d) mt_m_doDescribed 20 2 [(0, 12, 0), (1, 0, v1)] [] σ
set_option maxRecDepth 100000 in
theorem e_m_doDescribed_43 (d : Nat) (σ : ga_S) (v1 v2 s0 s1 : Int) : m_doDescribed_43 d σ v1 v2 s0 s1 = (c_m_objectTold d σ s1 s0).bind fun q1 =>
    if v1 = 0 then
      m_doDescribed_60 d q1.2 v1 v2 q1.1 q1.1
    else
      m_doDescribed_60 d q1.2 v1 v2 q1.1 (q1.2 fM_described 0 0) :=
  ga_blk_eq am_G (am_run d) mt_m_doDescribed 7 43 [(0, 12, 0), (1, 0, v1), (2, 0, v2)] [(0, s0), (0, s1), (12, 0)] σ
set_option maxRecDepth 100000 in
theorem e_m_doDescribed_60 (d : Nat) (σ : ga_S) (v1 v2 v3 s0 : Int) : m_doDescribed_60 d σ v1 v2 v3 s0 = if (σ fM_sort 0 0) = 13 then
    m_doDescribed_182 d (ga_up σ fM_described 0 0 s0) v1 v2 v3
  else
    ga_ck v3 24 ((c_m_isBelow d (ga_up σ fM_described 0 0 s0) (σ fM_readKind 0 0) (σ fM_kindOf 0 v3)).bind fun q2 =>
        if q2.1 = 0 then
          ga_ck v3 24 ((c_m_isBelow d q2.2 (q2.2 fM_kindOf 0 v3) (q2.2 fM_readKind 0 0)).bind fun q3 =>
              if q3.1 = 0 then
                ga_ck v2 2600 ((c_m_wrong d q3.2 5 (q3.2 fM_runFrom 0 v2)).bind fun q4 =>
                    m_doDescribed_130 d q4.2 v1 v2 v3)
              else
                m_doDescribed_130 d q3.2 v1 v2 v3)
        else
          ga_ck v3 24 (m_doDescribed_130 d (ga_up q2.2 fM_kindOf 0 v3 (q2.2 fM_readKind 0 0)) v1 v2 v3)) :=
  ga_blk_eq am_G (am_run d) mt_m_doDescribed 30 60 [(0, 12, 0), (1, 0, v1), (2, 0, v2), (3, 0, v3)] [(0, s0), (12, 0)] σ
set_option maxRecDepth 100000 in
theorem e_m_doDescribed_182 (d : Nat) (σ : ga_S) (v1 v2 v3 : Int) : m_doDescribed_182 d σ v1 v2 v3 = if 0 < (σ fM_placeWay 0 0) then
    if (σ fM_bestFault 0 0) = 0 then
      ga_ck v2 2600 ((c_m_placeObject d σ v3 (σ fM_runFrom 0 v2)).bind fun q5 =>
          m_doDescribed_207 d q5.2 v1)
    else
      m_doDescribed_207 d σ v1
  else
    m_doDescribed_207 d σ v1 :=
  ga_blk_eq am_G (am_run d) mt_m_doDescribed 13 182 [(0, 12, 0), (1, 0, v1), (2, 0, v2), (3, 0, v3)] [] σ
set_option maxRecDepth 100000 in
theorem e_m_doDescribed_130 (d : Nat) (σ : ga_S) (v1 v2 v3 : Int) : m_doDescribed_130 d σ v1 v2 v3 = m_doDescribed_133 d σ v1 v2 v3 0 :=
  ga_blk_eq am_G (am_run d) mt_m_doDescribed 2 130 [(0, 12, 0), (1, 0, v1), (2, 0, v2), (3, 0, v3)] [] σ
set_option maxRecDepth 100000 in
theorem e_m_doDescribed_207 (d : Nat) (σ : ga_S) (v1 : Int) : m_doDescribed_207 d σ v1 = m_doDescribed_2 d σ (w32 (v1 + 1)) :=
  ga_blk_eq am_G (am_run d) mt_m_doDescribed 2 207 [(0, 12, 0), (1, 0, v1)] [] σ
set_option maxRecDepth 100000 in
theorem e_m_doDescribed_133 (d : Nat) (σ : ga_S) (v1 v2 v3 v4 : Int) : m_doDescribed_133 d σ v1 v2 v3 v4 = if v4 < (σ fM_readCount 0 0) then
    if (σ fM_bestFault 0 0) = 0 then
      ga_ck v4 6 ((c_m_tellRead d σ v3 (σ fM_readAdjective 0 v4) 1).bind fun q6 =>
          if q6.1 = 0 then
            ga_ck v2 2600 ((c_m_wrong d q6.2 5 (q6.2 fM_runFrom 0 v2)).bind fun q7 =>
                m_doDescribed_176 d q7.2 v1 v2 v3 v4)
          else
            m_doDescribed_176 d q6.2 v1 v2 v3 v4)
    else
      m_doDescribed_182 d σ v1 v2 v3
  else
    m_doDescribed_182 d σ v1 v2 v3 :=
  ga_blk_eq am_G (am_run d) mt_m_doDescribed 23 133 [(0, 12, 0), (1, 0, v1), (2, 0, v2), (3, 0, v3), (4, 0, v4)] [] σ
set_option maxRecDepth 100000 in
theorem e_m_doDescribed_176 (d : Nat) (σ : ga_S) (v1 v2 v3 v4 : Int) : m_doDescribed_176 d σ v1 v2 v3 v4 = m_doDescribed_133 d σ v1 v2 v3 (w32 (v4 + 1)) :=
  ga_blk_eq am_G (am_run d) mt_m_doDescribed 2 176 [(0, 12, 0), (1, 0, v1), (2, 0, v2), (3, 0, v3), (4, 0, v4)] [] σ
set_option maxRecDepth 100000 in
theorem e_m_doWay (d : Nat) (σ : ga_S) : c_m_doWay (d + 1) σ = (c_m_meansRun d σ (σ fM_what 0 0) 12).bind fun q1 =>
    (c_m_meansRun d q1.2 (q1.2 fM_placeRun 0 0) 4).bind fun q2 =>
      (c_m_objectTold d q2.2 (q2.2 fM_listFrom 0 0) 1).bind fun q3 =>
        m_doWay_39 d (ga_up q3.2 fM_described 0 0 q3.1) q1.1 q2.1 q3.1 0 :=
  ga_blk_eq am_G (am_run d) mt_m_doWay 23 0 [(0, 12, 0)] [] σ
set_option maxRecDepth 100000 in
theorem e_m_doWay_39 (d : Nat) (σ : ga_S) (v1 v2 v3 v4 : Int) : m_doWay_39 d σ v1 v2 v3 v4 = if v4 < (σ fM_ways 0 0) then
    ga_ck v4 200 (if (σ fM_wayFrom 0 v4) = v2 then
        ga_ck v4 200 (if (σ fM_wayBy 0 v4) = v1 then
            ga_ck v4 200 (if (σ fM_wayTo 0 v4) = v3 then
                some (0, σ)
              else
                ga_ck (σ fM_listFrom 0 0) 2600 ((c_m_wrong d σ 5 (σ fM_runFrom 0 (σ fM_listFrom 0 0))).bind fun q4 =>
                    some (0, q4.2)))
          else
            m_doWay_96 d σ v1 v2 v3 v4)
      else
        m_doWay_96 d σ v1 v2 v3 v4)
  else
    ga_ck (σ fM_ways 0 0) 200 (ga_ck (σ fM_ways 0 0) 200 (ga_ck (σ fM_ways 0 0) 200 (some (0, (ga_up (ga_up (ga_up (ga_up σ fM_wayFrom 0 (σ fM_ways 0 0) v2) fM_wayBy 0 (σ fM_ways 0 0) v1) fM_wayTo 0 (σ fM_ways 0 0) v3) fM_ways 0 0 (w32 ((σ fM_ways 0 0) + 1))))))) :=
  ga_blk_eq am_G (am_run d) mt_m_doWay 31 39 [(0, 12, 0), (1, 0, v1), (2, 0, v2), (3, 0, v3), (4, 0, v4)] [] σ
set_option maxRecDepth 100000 in
theorem e_m_doWay_96 (d : Nat) (σ : ga_S) (v1 v2 v3 v4 : Int) : m_doWay_96 d σ v1 v2 v3 v4 = m_doWay_39 d σ v1 v2 v3 (w32 (v4 + 1)) :=
  ga_blk_eq am_G (am_run d) mt_m_doWay 2 96 [(0, 12, 0), (1, 0, v1), (2, 0, v2), (3, 0, v3), (4, 0, v4)] [] σ
set_option maxRecDepth 100000 in
theorem e_m_doFifteen (d : Nat) (σ : ga_S) : c_m_doFifteen (d + 1) σ = ga_ck (σ fM_what 0 0) 2600 (if (σ fM_how 0 0) = 1 then
      (c_m_meansRun d σ (σ fM_listFrom 0 0) 0).bind fun q3 =>
        if (q3.2 fM_readAdjective 0 0) < 100 then
          (c_m_tellIs_kindIs d q3.2 (w32 (24 * q3.1)) (q3.2 fM_readAdjective 0 0) 1).bind fun q5 =>
            m_doFifteen_74 d q5.2 q5.1
        else
          (c_m_tellKind d q3.2 q3.1 (w32 (Int.tmod (q3.2 fM_readAdjective 0 0) 100)) (w32 ((w32 (Int.tdiv (q3.2 fM_readAdjective 0 0) 100)) - 1)) 0).bind fun q4 =>
            m_doFifteen_74 d q4.2 q4.1
    else
      if (σ fM_how 0 0) = 2 then
        (c_m_typeOrPlural d σ (σ fM_listFrom 0 0)).bind fun q2 =>
          m_doFifteen_120 d q2.2 q2.1 (q2.2 fM_what 0 0)
      else
        if (σ fM_how 0 0) = 3 then
          (c_m_doDescribed d (ga_up σ fM_placeWay 0 0 0)).bind fun q1 =>
            some (0, q1.2)
        else
          m_doFifteen_190 d σ (σ fM_runFrom 0 (σ fM_what 0 0)) 0) :=
  ga_blk_eq am_G (am_run d) mt_m_doFifteen 36 0 [(0, 12, 0)] [] σ
set_option maxRecDepth 100000 in
theorem e_m_doFifteen_190 (d : Nat) (σ : ga_S) (v1 v2 : Int) : m_doFifteen_190 d σ v1 v2 = if v2 < (σ fM_listSize 0 0) then
    if (σ fM_bestFault 0 0) = 0 then
      (c_m_meansRun d σ (w32 ((σ fM_listFrom 0 0) + v2)) 4).bind fun q6 =>
        if v2 = 0 then
          m_doFifteen_230 d q6.2 v1 v2 q6.1 q6.1
        else
          m_doFifteen_230 d q6.2 v1 v2 q6.1 (q6.2 fM_described 0 0)
    else
      some (0, σ)
  else
    some (0, σ) :=
  ga_blk_eq am_G (am_run d) mt_m_doFifteen 20 190 [(0, 12, 0), (1, 0, v1), (2, 0, v2)] [] σ
set_option maxRecDepth 100000 in
theorem e_m_doFifteen_120 (d : Nat) (σ : ga_S) (v2 v3 : Int) : m_doFifteen_120 d σ v2 v3 = if v3 < (σ fM_runs 0 0) then
    ga_ck (σ fM_values 0 0) 64 ((c_m_tellRun d (ga_up σ fM_valueType 0 (σ fM_values 0 0) v2) 6 (σ fM_values 0 0) v3).bind fun q7 =>
        m_doFifteen_120 d (ga_up q7.2 fM_values 0 0 (w32 ((q7.2 fM_values 0 0) + 1))) v2 (w32 (v3 + 1)))
  else
    some (0, σ) :=
  ga_blk_eq am_G (am_run d) mt_m_doFifteen 24 120 [(0, 12, 0), (2, 0, v2), (3, 0, v3)] [] σ
set_option maxRecDepth 100000 in
theorem e_m_doFifteen_74 (d : Nat) (σ : ga_S) (s0 : Int) : m_doFifteen_74 d σ s0 = if s0 = 0 then
    ga_ck (σ fM_listFrom 0 0) 2600 ((c_m_wrong d σ 5 (σ fM_runFrom 0 (σ fM_listFrom 0 0))).bind fun q8 =>
        m_doFifteen_95 d q8.2)
  else
    m_doFifteen_95 d σ :=
  ga_blk_eq am_G (am_run d) mt_m_doFifteen 11 74 [(0, 12, 0)] [(0, s0)] σ
set_option maxRecDepth 100000 in
theorem e_m_doFifteen_230 (d : Nat) (σ : ga_S) (v1 v2 v3 s0 : Int) : m_doFifteen_230 d σ v1 v2 v3 s0 = ga_ck (σ fM_what 0 0) 2600 (ga_ck v3 24 (if (σ fM_isNot 0 0) = 0 then
        m_doFifteen_263 d (ga_up σ fM_described 0 0 s0) v1 v2 v3 1 0 (σ fM_kindOf 0 v3) (σ fM_runSize 0 (σ fM_what 0 0)) v1
      else
        m_doFifteen_263 d (ga_up σ fM_described 0 0 s0) v1 v2 v3 0 0 (σ fM_kindOf 0 v3) (σ fM_runSize 0 (σ fM_what 0 0)) v1)) :=
  ga_blk_eq am_G (am_run d) mt_m_doFifteen 18 230 [(0, 12, 0), (1, 0, v1), (2, 0, v2), (3, 0, v3)] [(0, s0), (12, 0)] σ
set_option maxRecDepth 100000 in
theorem e_m_doFifteen_95 (d : Nat) (σ : ga_S) : m_doFifteen_95 d σ = some (0, σ) :=
  ga_blk_eq am_G (am_run d) mt_m_doFifteen 2 95 [] [] σ
set_option maxRecDepth 100000 in
theorem e_m_doFifteen_263 (d : Nat) (σ : ga_S) (v1 v2 v3 s0 s1 s2 s3 s4 : Int) : m_doFifteen_263 d σ v1 v2 v3 s0 s1 s2 s3 s4 = (c_m_adjective d σ s4 s3 s2 s1 s0).bind fun q9 =>
    if (q9.2 fM_isNot 0 0) = 0 then
      m_doFifteen_285 d q9.2 v1 v2 1 (q9.2 fM_foundAdjective 0 0) v3
    else
      m_doFifteen_285 d q9.2 v1 v2 0 (q9.2 fM_foundAdjective 0 0) v3 :=
  ga_blk_eq am_G (am_run d) mt_m_doFifteen 11 263 [(0, 12, 0), (1, 0, v1), (2, 0, v2), (3, 0, v3)] [(0, s0), (0, s1), (0, s2), (0, s3), (0, s4), (12, 0)] σ
set_option maxRecDepth 100000 in
theorem e_m_doFifteen_285 (d : Nat) (σ : ga_S) (v1 v2 s0 s1 s2 : Int) : m_doFifteen_285 d σ v1 v2 s0 s1 s2 = (c_m_tellRead d σ s2 s1 s0).bind fun q10 =>
    if q10.1 = 0 then
      ga_ck (w32 ((q10.2 fM_listFrom 0 0) + v2)) 2600 ((c_m_wrong d q10.2 5 (q10.2 fM_runFrom 0 (w32 ((q10.2 fM_listFrom 0 0) + v2)))).bind fun q11 =>
          m_doFifteen_307 d q11.2 v1 v2)
    else
      m_doFifteen_307 d q10.2 v1 v2 :=
  ga_blk_eq am_G (am_run d) mt_m_doFifteen 12 285 [(0, 12, 0), (1, 0, v1), (2, 0, v2)] [(0, s0), (0, s1), (0, s2), (12, 0)] σ
set_option maxRecDepth 100000 in
theorem e_m_doFifteen_307 (d : Nat) (σ : ga_S) (v1 v2 : Int) : m_doFifteen_307 d σ v1 v2 = m_doFifteen_190 d σ v1 (w32 (v2 + 1)) :=
  ga_blk_eq am_G (am_run d) mt_m_doFifteen 2 307 [(0, 12, 0), (1, 0, v1), (2, 0, v2)] [] σ
set_option maxRecDepth 100000 in
theorem e_m_doProperty (d : Nat) (σ : ga_S) : c_m_doProperty (d + 1) σ = (c_m_meansRun d σ 1 4).bind fun q1 =>
    (c_m_meansRun d q1.2 0 7).bind fun q2 =>
      if q1.1 = (-1) then
        (c_m_meansRun d q2.2 1 0).bind fun q3 =>
          ga_ck (q3.2 fM_tests 0 0) 2400 (ga_ck (q3.2 fM_tests 0 0) 2400 ((c_m_tellKind d q3.2 q3.1 q2.1 (q3.2 fM_qWhat 0 (q3.2 fM_tests 0 0)) (q3.2 fM_qLong 0 (q3.2 fM_tests 0 0))).bind fun q4 =>
                m_doProperty_76 d q4.2 q4.1))
      else
        ga_ck (q2.2 fM_tests 0 0) 2400 (ga_ck (q2.2 fM_tests 0 0) 2400 ((c_m_tellObject d q2.2 q1.1 q2.1 (q2.2 fM_qWhat 0 (q2.2 fM_tests 0 0)) (q2.2 fM_qLong 0 (q2.2 fM_tests 0 0))).bind fun q5 =>
              m_doProperty_76 d q5.2 q5.1)) :=
  ga_blk_eq am_G (am_run d) mt_m_doProperty 30 0 [(0, 12, 0)] [] σ
set_option maxRecDepth 100000 in
theorem e_m_doProperty_76 (d : Nat) (σ : ga_S) (s0 : Int) : m_doProperty_76 d σ s0 = if s0 = 0 then
    (c_m_wrong d σ 5 (σ fM_runFrom 0 1)).bind fun q6 =>
      some (0, q6.2)
  else
    some (0, σ) :=
  ga_blk_eq am_G (am_run d) mt_m_doProperty 11 76 [(0, 12, 0)] [(0, s0)] σ
set_option maxRecDepth 100000 in
theorem e_m_relate (d : Nat) (σ : ga_S) (a1 a2 a3 : Int) : c_m_relate (d + 1) σ a1 a2 a3 = m_relate_3 d σ a1 a2 a3 0 :=
  ga_blk_eq am_G (am_run d) mt_m_relate 2 0 [(0, 12, 0), (1, 0, a1), (2, 0, a2), (3, 0, a3)] [] σ
set_option maxRecDepth 100000 in
theorem e_m_relate_3 (d : Nat) (σ : ga_S) (v1 v2 v3 v4 : Int) : m_relate_3 d σ v1 v2 v3 v4 = if v4 < (σ fM_objects 0 0) then
    ga_ck v1 6 (if (σ fM_firstOne 0 v1) = 0 then
        m_relate_48 d σ v1 v2 v3 v4
      else
        if v4 = v2 then
          m_relate_48 d σ v1 v2 v3 v4
        else
          ga_ck (w32 ((w32 ((w32 (576 * v1)) + (w32 (24 * v4)))) + v3)) 3456 (if (σ fM_related 0 (w32 ((w32 ((w32 (576 * v1)) + (w32 (24 * v4)))) + v3))) = 0 then
              m_relate_48 d σ v1 v2 v3 v4
            else
              some (0, σ)))
  else
    ga_ck (w32 ((w32 ((w32 (576 * v1)) + (w32 (24 * v2)))) + v3)) 3456 (some (1, (ga_up σ fM_related 0 (w32 ((w32 ((w32 (576 * v1)) + (w32 (24 * v2)))) + v3)) 1))) :=
  ga_blk_eq am_G (am_run d) mt_m_relate 27 3 [(0, 12, 0), (1, 0, v1), (2, 0, v2), (3, 0, v3), (4, 0, v4)] [] σ
set_option maxRecDepth 100000 in
theorem e_m_relate_48 (d : Nat) (σ : ga_S) (v1 v2 v3 v4 : Int) : m_relate_48 d σ v1 v2 v3 v4 = ga_ck v1 6 (if (σ fM_secondOne 0 v1) = 0 then
      m_relate_86 d σ v1 v2 v3 v4
    else
      if v4 = v3 then
        m_relate_86 d σ v1 v2 v3 v4
      else
        ga_ck (w32 ((w32 ((w32 (576 * v1)) + (w32 (24 * v2)))) + v4)) 3456 (if (σ fM_related 0 (w32 ((w32 ((w32 (576 * v1)) + (w32 (24 * v2)))) + v4))) = 0 then
            m_relate_86 d σ v1 v2 v3 v4
          else
            some (0, σ))) :=
  ga_blk_eq am_G (am_run d) mt_m_relate 23 48 [(0, 12, 0), (1, 0, v1), (2, 0, v2), (3, 0, v3), (4, 0, v4)] [] σ
set_option maxRecDepth 100000 in
theorem e_m_relate_86 (d : Nat) (σ : ga_S) (v1 v2 v3 v4 : Int) : m_relate_86 d σ v1 v2 v3 v4 = m_relate_3 d σ v1 v2 v3 (w32 (v4 + 1)) :=
  ga_blk_eq am_G (am_run d) mt_m_relate 2 86 [(0, 12, 0), (1, 0, v1), (2, 0, v2), (3, 0, v3), (4, 0, v4)] [] σ
set_option maxRecDepth 100000 in
theorem e_m_doSaying (d : Nat) (σ : ga_S) (a1 : Int) : c_m_doSaying (d + 1) σ a1 = m_doSaying_2 d σ a1 0 :=
  ga_blk_eq am_G (am_run d) mt_m_doSaying 2 0 [(0, 12, 0), (1, 0, a1)] [] σ
set_option maxRecDepth 100000 in
theorem e_m_doSaying_2 (d : Nat) (σ : ga_S) (v1 v2 : Int) : m_doSaying_2 d σ v1 v2 = if v2 < (σ fM_aheadCount 0 0) then
    if (σ fM_bestFault 0 0) = 0 then
      m_doSaying_19 d σ v1 v2 0
    else
      some (0, σ)
  else
    some (0, σ) :=
  ga_blk_eq am_G (am_run d) mt_m_doSaying 9 2 [(0, 12, 0), (1, 0, v1), (2, 0, v2)] [] σ
set_option maxRecDepth 100000 in
theorem e_m_doSaying_19 (d : Nat) (σ : ga_S) (v1 v2 v3 : Int) : m_doSaying_19 d σ v1 v2 v3 = if v3 < (σ fM_behindCount 0 0) then
    if (σ fM_bestFault 0 0) = 0 then
      ga_ck v2 2600 (ga_ck v3 2600 ((c_m_relate d σ (σ fM_saidRelation 0 0) (σ fM_aheadObjects 0 v2) (σ fM_behindObjects 0 v3)).bind fun q1 =>
            if q1.1 = 0 then
              (c_m_wrong d q1.2 5 v1).bind fun q2 =>
                m_doSaying_63 d q2.2 v1 v2 v3
            else
              m_doSaying_63 d q1.2 v1 v2 v3))
    else
      m_doSaying_69 d σ v1 v2
  else
    m_doSaying_69 d σ v1 v2 :=
  ga_blk_eq am_G (am_run d) mt_m_doSaying 24 19 [(0, 12, 0), (1, 0, v1), (2, 0, v2), (3, 0, v3)] [] σ
set_option maxRecDepth 100000 in
theorem e_m_doSaying_69 (d : Nat) (σ : ga_S) (v1 v2 : Int) : m_doSaying_69 d σ v1 v2 = m_doSaying_2 d σ v1 (w32 (v2 + 1)) :=
  ga_blk_eq am_G (am_run d) mt_m_doSaying 2 69 [(0, 12, 0), (1, 0, v1), (2, 0, v2)] [] σ
set_option maxRecDepth 100000 in
theorem e_m_doSaying_63 (d : Nat) (σ : ga_S) (v1 v2 v3 : Int) : m_doSaying_63 d σ v1 v2 v3 = m_doSaying_19 d σ v1 v2 (w32 (v3 + 1)) :=
  ga_blk_eq am_G (am_run d) mt_m_doSaying 2 63 [(0, 12, 0), (1, 0, v1), (2, 0, v2), (3, 0, v3)] [] σ
set_option maxRecDepth 100000 in
theorem e_m_doKinds (d : Nat) (σ : ga_S) : c_m_doKinds (d + 1) σ = if (σ fM_what 0 0) = (-2) then
    m_doKinds_24 d σ (σ fM_kinds 0 0) (σ fM_types 0 0) 1
  else
    m_doKinds_24 d σ (σ fM_kinds 0 0) (σ fM_types 0 0) 0 :=
  ga_blk_eq am_G (am_run d) mt_m_doKinds 12 0 [(0, 12, 0)] [] σ
set_option maxRecDepth 100000 in
theorem e_m_doKinds_24 (d : Nat) (σ : ga_S) (v1 v2 s0 : Int) : m_doKinds_24 d σ v1 v2 s0 = if s0 = 0 then
    if (σ fM_what 0 0) = (-1) then
      m_doKinds_37 d σ v1 v2 s0
    else
      (c_m_meansRun d σ (σ fM_what 0 0) 0).bind fun q1 =>
        m_doKinds_50 d q1.2 v1 v2 s0 q1.1
  else
    m_doKinds_37 d σ v1 v2 s0 :=
  ga_blk_eq am_G (am_run d) mt_m_doKinds 12 24 [(0, 12, 0), (1, 0, v1), (2, 0, v2)] [(0, s0)] σ
set_option maxRecDepth 100000 in
theorem e_m_doKinds_37 (d : Nat) (σ : ga_S) (v1 v2 v3 : Int) : m_doKinds_37 d σ v1 v2 v3 = m_doKinds_50 d σ v1 v2 v3 0 :=
  ga_blk_eq am_G (am_run d) mt_m_doKinds 2 37 [(0, 12, 0), (1, 0, v1), (2, 0, v2), (3, 0, v3)] [] σ
set_option maxRecDepth 100000 in
theorem e_m_doKinds_50 (d : Nat) (σ : ga_S) (v1 v2 v3 s0 : Int) : m_doKinds_50 d σ v1 v2 v3 s0 = m_doKinds_55 d σ v1 v2 v3 s0 0 :=
  ga_blk_eq am_G (am_run d) mt_m_doKinds 3 50 [(0, 12, 0), (1, 0, v1), (2, 0, v2), (3, 0, v3)] [(0, s0)] σ
set_option maxRecDepth 100000 in
theorem e_m_doKinds_55 (d : Nat) (σ : ga_S) (v1 v2 v3 v4 v5 : Int) : m_doKinds_55 d σ v1 v2 v3 v4 v5 = if v5 < (σ fM_listSize 0 0) then
    if v3 = 0 then
      (c_m_addKind d σ v4).bind fun q2 =>
        (c_m_tellRun d q2.2 0 q2.1 (w32 ((q2.2 fM_listFrom 0 0) + v5))).bind fun q3 =>
          m_doKinds_115 d q3.2 v1 v2 v3 v4 v5
    else
      (c_m_tellRun d σ 2 (σ fM_types 0 0) (w32 ((σ fM_listFrom 0 0) + v5))).bind fun q4 =>
        m_doKinds_115 d (ga_up q4.2 fM_types 0 0 (w32 ((q4.2 fM_types 0 0) + 1))) v1 v2 v3 v4 v5
  else
    m_doKinds_124 d σ v1 v2 v3 0 :=
  ga_blk_eq am_G (am_run d) mt_m_doKinds 22 55 [(0, 12, 0), (1, 0, v1), (2, 0, v2), (3, 0, v3), (4, 0, v4), (5, 0, v5)] [] σ
set_option maxRecDepth 100000 in
theorem e_m_doKinds_124 (d : Nat) (σ : ga_S) (v1 v2 v3 v5 : Int) : m_doKinds_124 d σ v1 v2 v3 v5 = if v5 < (σ fM_listSize 0 0) then
    ga_ck (w32 ((σ fM_listFrom 0 0) + v5)) 2600 (ga_ck (w32 ((σ fM_listFrom 0 0) + v5)) 2600 (ga_ck (w32 ((w32 ((σ fM_runFrom 0 (w32 ((σ fM_listFrom 0 0) + v5))) + (σ fM_runSize 0 (w32 ((σ fM_listFrom 0 0) + v5))))) - 1)) 5002 (if (ga_lcmp (ga_lshr (σ fM_word 0 (w32 ((w32 ((σ fM_runFrom 0 (w32 ((σ fM_listFrom 0 0) + v5))) + (σ fM_runSize 0 (w32 ((σ fM_listFrom 0 0) + v5))))) - 1))) 55) 0) = 0 then
            m_doKinds_190 d σ v1 v2 v3 v5 (σ fM_runFrom 0 (w32 ((σ fM_listFrom 0 0) + v5))) (σ fM_runSize 0 (w32 ((σ fM_listFrom 0 0) + v5))) (σ fM_word 0 (w32 ((w32 ((σ fM_runFrom 0 (w32 ((σ fM_listFrom 0 0) + v5))) + (σ fM_runSize 0 (w32 ((σ fM_listFrom 0 0) + v5))))) - 1))) 0
          else
            m_doKinds_190 d σ v1 v2 v3 v5 (σ fM_runFrom 0 (w32 ((σ fM_listFrom 0 0) + v5))) (σ fM_runSize 0 (w32 ((σ fM_listFrom 0 0) + v5))) (σ fM_word 0 (w32 ((w32 ((σ fM_runFrom 0 (w32 ((σ fM_listFrom 0 0) + v5))) + (σ fM_runSize 0 (w32 ((σ fM_listFrom 0 0) + v5))))) - 1))) 1)))
  else
    some (0, σ) :=
  ga_blk_eq am_G (am_run d) mt_m_doKinds 37 124 [(0, 12, 0), (1, 0, v1), (2, 0, v2), (3, 0, v3), (5, 0, v5)] [] σ
set_option maxRecDepth 100000 in
theorem e_m_doKinds_115 (d : Nat) (σ : ga_S) (v1 v2 v3 v4 v5 : Int) : m_doKinds_115 d σ v1 v2 v3 v4 v5 = m_doKinds_55 d σ v1 v2 v3 v4 (w32 (v5 + 1)) :=
  ga_blk_eq am_G (am_run d) mt_m_doKinds 2 115 [(0, 12, 0), (1, 0, v1), (2, 0, v2), (3, 0, v3), (4, 0, v4), (5, 0, v5)] [] σ
set_option maxRecDepth 100000 in
theorem e_m_doKinds_190 (d : Nat) (σ : ga_S) (v1 v2 v3 v5 v6 v7 v8 s0 : Int) : m_doKinds_190 d σ v1 v2 v3 v5 v6 v7 v8 s0 = if s0 = 0 then
    m_doKinds_210 d σ v1 v2 v3 v5 v6 v7 s0 (ga_lor (ga_lshl v8 5) 19)
  else
    m_doKinds_210 d σ v1 v2 v3 v5 v6 v7 s0 v8 :=
  ga_blk_eq am_G (am_run d) mt_m_doKinds 8 190 [(0, 12, 0), (1, 0, v1), (2, 0, v2), (3, 0, v3), (5, 0, v5), (6, 0, v6), (7, 0, v7), (8, 1, v8)] [(0, s0)] σ
set_option maxRecDepth 100000 in
theorem e_m_doKinds_210 (d : Nat) (σ : ga_S) (v1 v2 v3 v5 v6 v7 v10 s0 : Int) : m_doKinds_210 d σ v1 v2 v3 v5 v6 v7 v10 s0 = if v7 = 1 then
    m_doKinds_230 d σ v1 v2 v3 v5 v6 v7 v10 s0 s0
  else
    ga_ck v6 5002 (m_doKinds_230 d σ v1 v2 v3 v5 v6 v7 v10 s0 (σ fM_word 0 v6)) :=
  ga_blk_eq am_G (am_run d) mt_m_doKinds 8 210 [(0, 12, 0), (1, 0, v1), (2, 0, v2), (3, 0, v3), (5, 0, v5), (6, 0, v6), (7, 0, v7), (10, 0, v10)] [(1, s0)] σ
set_option maxRecDepth 100000 in
theorem e_m_doKinds_230 (d : Nat) (σ : ga_S) (v1 v2 v3 v5 v6 v7 v10 v11 s0 : Int) : m_doKinds_230 d σ v1 v2 v3 v5 v6 v7 v10 v11 s0 = if v7 = 2 then
    m_doKinds_262 d σ v1 v2 v3 v5 v7 v10 v11 s0 v11
  else
    if 2 < v7 then
      ga_ck (w32 (v6 + 1)) 5002 (m_doKinds_262 d σ v1 v2 v3 v5 v7 v10 v11 s0 (σ fM_word 0 (w32 (v6 + 1))))
    else
      m_doKinds_262 d σ v1 v2 v3 v5 v7 v10 v11 s0 0 :=
  ga_blk_eq am_G (am_run d) mt_m_doKinds 14 230 [(0, 12, 0), (1, 0, v1), (2, 0, v2), (3, 0, v3), (5, 0, v5), (6, 0, v6), (7, 0, v7), (10, 0, v10), (11, 1, v11)] [(1, s0)] σ
set_option maxRecDepth 100000 in
theorem e_m_doKinds_262 (d : Nat) (σ : ga_S) (v1 v2 v3 v5 v7 v10 v11 v13 s0 : Int) : m_doKinds_262 d σ v1 v2 v3 v5 v7 v10 v11 v13 s0 = if v7 = 3 then
    m_doKinds_276 d σ v1 v2 v3 v5 v7 v10 v13 s0 v11
  else
    m_doKinds_276 d σ v1 v2 v3 v5 v7 v10 v13 s0 0 :=
  ga_blk_eq am_G (am_run d) mt_m_doKinds 6 262 [(0, 12, 0), (1, 0, v1), (2, 0, v2), (3, 0, v3), (5, 0, v5), (7, 0, v7), (10, 0, v10), (11, 1, v11), (13, 1, v13)] [(1, s0)] σ
set_option maxRecDepth 100000 in
theorem e_m_doKinds_276 (d : Nat) (σ : ga_S) (v1 v2 v3 v5 v7 v10 v13 v15 s0 : Int) : m_doKinds_276 d σ v1 v2 v3 v5 v7 v10 v13 v15 s0 = if v10 = 0 then
    (c_m_find d σ v13 v15 s0 v7).bind fun q5 =>
      if q5.1 = (-1) then
        m_doKinds_299 d q5.2 v1 v2 v3 v5 v7 v10 v13 v15 s0
      else
        m_doKinds_348 d q5.2 v1 v2 v3 v5
  else
    m_doKinds_299 d σ v1 v2 v3 v5 v7 v10 v13 v15 s0 :=
  ga_blk_eq am_G (am_run d) mt_m_doKinds 11 276 [(0, 12, 0), (1, 0, v1), (2, 0, v2), (3, 0, v3), (5, 0, v5), (7, 0, v7), (10, 0, v10), (13, 1, v13), (15, 1, v15)] [(1, s0)] σ
set_option maxRecDepth 100000 in
theorem e_m_doKinds_299 (d : Nat) (σ : ga_S) (v1 v2 v3 v5 v7 v10 v13 v15 v17 : Int) : m_doKinds_299 d σ v1 v2 v3 v5 v7 v10 v13 v15 v17 = if v3 = 0 then
    m_doKinds_309 d σ v1 v2 v3 v5 v7 v10 v13 v15 v17 1
  else
    m_doKinds_309 d σ v1 v2 v3 v5 v7 v10 v13 v15 v17 3 :=
  ga_blk_eq am_G (am_run d) mt_m_doKinds 5 299 [(0, 12, 0), (1, 0, v1), (2, 0, v2), (3, 0, v3), (5, 0, v5), (7, 0, v7), (10, 0, v10), (13, 1, v13), (15, 1, v15), (17, 1, v17)] [] σ
set_option maxRecDepth 100000 in
theorem e_m_doKinds_348 (d : Nat) (σ : ga_S) (v1 v2 v3 v5 : Int) : m_doKinds_348 d σ v1 v2 v3 v5 = m_doKinds_124 d σ v1 v2 v3 (w32 (v5 + 1)) :=
  ga_blk_eq am_G (am_run d) mt_m_doKinds 2 348 [(0, 12, 0), (1, 0, v1), (2, 0, v2), (3, 0, v3), (5, 0, v5)] [] σ
set_option maxRecDepth 100000 in
theorem e_m_doKinds_309 (d : Nat) (σ : ga_S) (v1 v2 v3 v5 v7 v10 v13 v15 v17 s0 : Int) : m_doKinds_309 d σ v1 v2 v3 v5 v7 v10 v13 v15 v17 s0 = if v3 = 0 then
    m_doKinds_324 d σ v1 v2 v3 v5 v7 v10 v13 v15 v17 (w32 (v1 + v5)) s0
  else
    m_doKinds_324 d σ v1 v2 v3 v5 v7 v10 v13 v15 v17 (w32 (v2 + v5)) s0 :=
  ga_blk_eq am_G (am_run d) mt_m_doKinds 6 309 [(0, 12, 0), (1, 0, v1), (2, 0, v2), (3, 0, v3), (5, 0, v5), (7, 0, v7), (10, 0, v10), (13, 1, v13), (15, 1, v15), (17, 1, v17)] [(0, s0), (12, 0)] σ
set_option maxRecDepth 100000 in
theorem e_m_doKinds_324 (d : Nat) (σ : ga_S) (v1 v2 v3 v5 v7 v10 v13 v15 v17 s0 s1 : Int) : m_doKinds_324 d σ v1 v2 v3 v5 v7 v10 v13 v15 v17 s0 s1 = (c_m_tell d σ s1 s0 v13 v15 v17 v7).bind fun q6 =>
    ga_ck (w32 ((q6.2 fM_lexes 0 0) - 1)) 300 (ga_01 v10 (m_doKinds_348 d (ga_up q6.2 fM_lexLong 0 (w32 ((q6.2 fM_lexes 0 0) - 1)) v10) v1 v2 v3 v5)) :=
  ga_blk_eq am_G (am_run d) mt_m_doKinds 13 324 [(0, 12, 0), (1, 0, v1), (2, 0, v2), (3, 0, v3), (5, 0, v5), (7, 0, v7), (10, 0, v10), (13, 1, v13), (15, 1, v15), (17, 1, v17)] [(0, s0), (0, s1), (12, 0)] σ
set_option maxRecDepth 100000 in
theorem e_m_doPlural (d : Nat) (σ : ga_S) : c_m_doPlural (d + 1) σ = (c_m_kindOrPlural d σ 0).bind fun q1 =>
    if q1.1 = (-1) then
      m_doPlural_16 d q1.2 q1.1 3
    else
      m_doPlural_16 d q1.2 q1.1 1 :=
  ga_blk_eq am_G (am_run d) mt_m_doPlural 9 0 [(0, 12, 0)] [] σ
set_option maxRecDepth 100000 in
theorem e_m_doPlural_16 (d : Nat) (σ : ga_S) (v1 s0 : Int) : m_doPlural_16 d σ v1 s0 = if v1 = (-1) then
    (c_m_typeOrPlural d σ 0).bind fun q2 =>
      m_doPlural_31 d q2.2 s0 q2.1
  else
    m_doPlural_31 d σ s0 v1 :=
  ga_blk_eq am_G (am_run d) mt_m_doPlural 7 16 [(0, 12, 0), (1, 0, v1)] [(0, s0)] σ
set_option maxRecDepth 100000 in
theorem e_m_doPlural_31 (d : Nat) (σ : ga_S) (v2 s0 : Int) : m_doPlural_31 d σ v2 s0 = (c_m_lexOf d σ v2 s0).bind fun q3 =>
    if q3.1 = (-1) then
      m_doPlural_62 d q3.2 v2 s0 q3.1 (q3.2 fM_lexes 0 0) (q3.2 fM_lexes 0 0)
    else
      m_doPlural_62 d q3.2 v2 s0 q3.1 (q3.2 fM_lexes 0 0) q3.1 :=
  ga_blk_eq am_G (am_run d) mt_m_doPlural 16 31 [(0, 12, 0), (2, 0, v2)] [(0, s0)] σ
set_option maxRecDepth 100000 in
theorem e_m_doPlural_62 (d : Nat) (σ : ga_S) (v2 v3 v4 v5 s0 : Int) : m_doPlural_62 d σ v2 v3 v4 v5 s0 = (c_m_tellRun d (ga_up σ fM_lexes 0 0 s0) v2 v3 1).bind fun q4 =>
    if v4 = (-1) then
      m_doPlural_88 d q4.2 (q4.2 fM_lexes 0 0)
    else
      m_doPlural_88 d q4.2 v5 :=
  ga_blk_eq am_G (am_run d) mt_m_doPlural 13 62 [(0, 12, 0), (2, 0, v2), (3, 0, v3), (4, 0, v4), (5, 0, v5)] [(0, s0), (12, 0)] σ
set_option maxRecDepth 100000 in
theorem e_m_doPlural_88 (d : Nat) (σ : ga_S) (s0 : Int) : m_doPlural_88 d σ s0 = some (0, (ga_up σ fM_lexes 0 0 s0)) :=
  ga_blk_eq am_G (am_run d) mt_m_doPlural 2 88 [] [(0, s0), (12, 0)] σ
set_option maxRecDepth 100000 in
theorem e_m_doCommand (d : Nat) (σ : ga_S) : c_m_doCommand (d + 1) σ = (c_m_meansRun d σ 0 11).bind fun q1 =>
    ga_ck (σ fM_commands 0 0) 20 (ga_ck (σ fM_commands 0 0) 20 (ga_ck (σ fM_commands 0 0) 20 ((p_cpy_175_131 d (ga_up (ga_up (ga_up q1.2 fM_commandAction 0 (σ fM_commands 0 0) q1.1) fM_commandSize 0 (σ fM_commands 0 0) (q1.2 fM_newSize 0 0)) fM_commandKind 0 (σ fM_commands 0 0) (q1.2 fM_newKind 0 0)) 0 (w32 (8 * (σ fM_commands 0 0))) 8).bind fun q2 =>
            some (0, (ga_up q2.2 fM_commands 0 0 (w32 ((q2.2 fM_commands 0 0) + 1))))))) :=
  ga_blk_eq am_G (am_run d) mt_m_doCommand 40 0 [(0, 12, 0)] [] σ
set_option maxRecDepth 100000 in
theorem e_m_doDefined (d : Nat) (σ : ga_S) : c_m_doDefined (d + 1) σ = (c_m_meansRun d σ 0 0).bind fun q1 =>
    (c_m_addAdjective d q1.2 q1.1 (-1)).bind fun q2 =>
      ga_ck q2.1 24 (ga_ck q2.1 24 ((c_m_tellRun d (ga_up (ga_up (ga_up q2.2 fM_definedFrom 0 q2.1 (q2.2 fM_tests 0 0)) fM_definedTests 0 q2.1 (q2.2 fM_tShown 0 0)) fM_tests 0 0 (w32 ((q2.2 fM_tests 0 0) + (q2.2 fM_tShown 0 0)))) 5 q2.1 1).bind fun q3 =>
            some (0, q3.2))) :=
  ga_blk_eq am_G (am_run d) mt_m_doDefined 33 0 [(0, 12, 0)] [] σ
set_option maxRecDepth 100000 in
theorem e_m_doHas (d : Nat) (σ : ga_S) : c_m_doHas (d + 1) σ = (c_m_meansRun d σ 0 0).bind fun q1 =>
    (c_m_typeOrPlural d q1.2 1).bind fun q2 =>
      (c_m_meansRun d q2.2 2 7).bind fun q3 =>
        if q3.1 = (-1) then
          ga_ck (q3.2 fM_properties 0 0) 12 ((c_m_tellRun d (ga_up q3.2 fM_propertyType 0 (q3.2 fM_properties 0 0) q2.1) 7 (q3.2 fM_properties 0 0) 2).bind fun q5 =>
              m_doHas_81 d (ga_up q5.2 fM_properties 0 0 (w32 ((q5.2 fM_properties 0 0) + 1))) q1.1 (q3.2 fM_properties 0 0))
        else
          ga_ck q3.1 12 (if (q3.2 fM_propertyType 0 q3.1) = q2.1 then
              m_doHas_81 d q3.2 q1.1 q3.1
            else
              (c_m_wrong d q3.2 5 (q3.2 fM_runFrom 0 0)).bind fun q4 =>
                some (0, q4.2)) :=
  ga_blk_eq am_G (am_run d) mt_m_doHas 37 0 [(0, 12, 0)] [] σ
set_option maxRecDepth 100000 in
theorem e_m_doHas_81 (d : Nat) (σ : ga_S) (v1 v3 : Int) : m_doHas_81 d σ v1 v3 = ga_ck (w32 ((w32 (12 * v1)) + v3)) 192 (some (0, (ga_up σ fM_kindHas 0 (w32 ((w32 (12 * v1)) + v3)) 1))) :=
  ga_blk_eq am_G (am_run d) mt_m_doHas 10 81 [(0, 12, 0), (1, 0, v1), (3, 0, v3)] [] σ
set_option maxRecDepth 100000 in
theorem e_m_does1 (d : Nat) (σ : ga_S) (a1 : Int) : c_m_does1 (d + 1) σ a1 = if (σ fM_sort 0 0) = 0 then
    ga_ck (σ fM_textAt 0 0) 5002 (ga_ck (σ fM_textAt 0 0) 5002 ((c_m_tellObject d σ (σ fM_described 0 0) 0 (w32 ((σ fM_place 0 (σ fM_textAt 0 0)) + 1)) (σ fM_length 0 (σ fM_textAt 0 0))).bind fun q25 =>
          if q25.1 = 0 then
            (c_m_wrong d q25.2 5 a1).bind fun q26 =>
              some (0, q26.2)
          else
            some (0, q25.2)))
  else
    if (σ fM_sort 0 0) = 1 then
      (c_m_doCommand d σ).bind fun q24 =>
        some (0, q24.2)
    else
      if (σ fM_sort 0 0) = 2 then
        (c_m_doDefined d σ).bind fun q23 =>
          some (0, q23.2)
      else
        if (σ fM_sort 0 0) = 3 then
          some (0, σ)
        else
          if (σ fM_sort 0 0) = 4 then
            some (0, σ)
          else
            if (σ fM_sort 0 0) = 5 then
              some (0, σ)
            else
              if (σ fM_sort 0 0) = 6 then
                some (0, σ)
              else
                if (σ fM_sort 0 0) = 7 then
                  (c_m_meansRun d σ 1 8).bind fun q20 =>
                    ga_ck (σ fM_verbs 0 0) 8 (ga_ck (q20.2 fM_runFrom 0 0) 5002 ((c_m_tell d (ga_up q20.2 fM_verbRelation 0 (σ fM_verbs 0 0) q20.1) 9 (q20.2 fM_verbs 0 0) (q20.2 fM_word 0 (q20.2 fM_runFrom 0 0)) 0 0 1).bind fun q21 =>
                          ga_ck (q21.2 fM_runFrom 0 0) 5002 ((c_m_tell d q21.2 10 (q21.2 fM_verbs 0 0) (ga_lor (ga_lshl (q21.2 fM_word 0 (q21.2 fM_runFrom 0 0)) 5) 19) 0 0 1).bind fun q22 =>
                              ga_ck (q22.2 fM_runFrom 0 0) 5002 (if (ga_lcmp (ga_lshr (q22.2 fM_word 0 (q22.2 fM_runFrom 0 0)) 55) 0) = 0 then
                                  m_does1_263 d q22.2 0 (w32 ((q22.2 fM_lexes 0 0) - 1))
                                else
                                  m_does1_263 d q22.2 1 (w32 ((q22.2 fM_lexes 0 0) - 1))))))
                else
                  if (σ fM_sort 0 0) = 8 then
                    (c_m_doPlural d σ).bind fun q19 =>
                      some (0, q19.2)
                  else
                    if (σ fM_sort 0 0) = 9 then
                      (c_m_doProperty d σ).bind fun q18 =>
                        some (0, q18.2)
                    else
                      if (σ fM_sort 0 0) = 10 then
                        (c_m_doKinds d σ).bind fun q17 =>
                          some (0, q17.2)
                      else
                        if (σ fM_sort 0 0) = 11 then
                          m_does1_300 d σ 0
                        else
                          if (σ fM_sort 0 0) = 12 then
                            (c_m_doDescribed d σ).bind fun q16 =>
                              some (0, q16.2)
                          else
                            if (σ fM_sort 0 0) = 13 then
                              (c_m_doDescribed d σ).bind fun q15 =>
                                some (0, q15.2)
                            else
                              if (σ fM_sort 0 0) = 14 then
                                (c_m_doWay d σ).bind fun q14 =>
                                  some (0, q14.2)
                              else
                                if (σ fM_sort 0 0) = 15 then
                                  (c_m_doFifteen d σ).bind fun q13 =>
                                    some (0, q13.2)
                                else
                                  if (σ fM_sort 0 0) = 16 then
                                    (c_m_doFifteen d σ).bind fun q12 =>
                                      some (0, q12.2)
                                  else
                                    if (σ fM_sort 0 0) = 17 then
                                      (c_m_doHas d σ).bind fun q11 =>
                                        some (0, q11.2)
                                    else
                                      if (σ fM_sort 0 0) = 18 then
                                        (c_m_meansRun d σ 0 0).bind fun q5 =>
                                          (c_m_addAdjective d q5.2 q5.1 (w32 ((q5.2 fM_adjectives 0 0) + 1))).bind fun q6 =>
                                            (c_m_tellRun d q6.2 5 q6.1 1).bind fun q7 =>
                                              (c_m_meansRun d q7.2 0 0).bind fun q8 =>
                                                (c_m_addAdjective d q8.2 q8.1 q6.1).bind fun q9 =>
                                                  (c_m_tellRun d q9.2 5 q9.1 2).bind fun q10 =>
                                                    some (0, q10.2)
                                      else
                                        if (σ fM_sort 0 0) = 19 then
                                          (c_m_kindOrPlural d σ 1).bind fun q2 =>
                                            ga_ck (σ fM_relations 0 0) 6 ((c_m_kindOrPlural d (ga_up q2.2 fM_relates 0 (σ fM_relations 0 0) q2.1) 2).bind fun q3 =>
                                                ga_ck (q2.2 fM_relations 0 0) 6 (ga_ck (q3.2 fM_relations 0 0) 6 (ga_01 (q3.2 fM_firstIsOne 0 0) (ga_ck (q3.2 fM_relations 0 0) 6 (ga_01 (q3.2 fM_secondIsOne 0 0) ((c_m_tellRun d (ga_up (ga_up (ga_up q3.2 fM_relatesTo 0 (q2.2 fM_relations 0 0) q3.1) fM_firstOne 0 (q3.2 fM_relations 0 0) (q3.2 fM_firstIsOne 0 0)) fM_secondOne 0 (q3.2 fM_relations 0 0) (q3.2 fM_secondIsOne 0 0)) 8 (q3.2 fM_relations 0 0) 0).bind fun q4 =>
                                                            some (0, (ga_up q4.2 fM_relations 0 0 (w32 ((q4.2 fM_relations 0 0) + 1))))))))))
                                        else
                                          if (σ fM_sort 0 0) = 20 then
                                            (c_m_doSaying d σ a1).bind fun q1 =>
                                              some (0, q1.2)
                                          else
                                            some (0, σ) :=
  ga_blk_eq am_G (am_run d) mt_m_does1 66 0 [(0, 12, 0), (1, 0, a1)] [] σ
set_option maxRecDepth 100000 in
theorem e_m_does1_300 (d : Nat) (σ : ga_S) (v2 : Int) : m_does1_300 d σ v2 = if v2 < (σ fM_listSize 0 0) then
    if (σ fM_what 0 0) = (-1) then
      m_does1_333 d σ v2 (-1) 11
    else
      (c_m_meansRun d σ (σ fM_what 0 0) 0).bind fun q27 =>
        m_does1_333 d q27.2 v2 q27.1 11
  else
    some (0, σ) :=
  ga_blk_eq am_G (am_run d) mt_m_does1 16 300 [(0, 12, 0), (2, 0, v2)] [] σ
set_option maxRecDepth 100000 in
theorem e_m_does1_263 (d : Nat) (σ : ga_S) (s0 s1 : Int) : m_does1_263 d σ s0 s1 = ga_ck s1 300 (ga_01 s0 (some (0, (ga_up (ga_up σ fM_lexLong 0 s1 s0) fM_verbs 0 0 (w32 ((σ fM_verbs 0 0) + 1)))))) :=
  ga_blk_eq am_G (am_run d) mt_m_does1 9 263 [(0, 12, 0)] [(0, s0), (0, s1), (102, 0)] σ
set_option maxRecDepth 100000 in
theorem e_m_does1_333 (d : Nat) (σ : ga_S) (v2 s0 s2 : Int) : m_does1_333 d σ v2 s0 s2 = (c_m_addAction d σ s0).bind fun q28 =>
    (c_m_tellRun d q28.2 s2 q28.1 (w32 ((q28.2 fM_listFrom 0 0) + v2))).bind fun q29 =>
      m_does1_300 d q29.2 (w32 (v2 + 1)) :=
  ga_blk_eq am_G (am_run d) mt_m_does1 8 333 [(0, 12, 0), (2, 0, v2)] [(0, s0), (12, 0), (0, s2), (12, 0)] σ
set_option maxRecDepth 100000 in
theorem e_m_failed (d : Nat) (σ : ga_S) (a1 a2 : Int) : c_m_failed (d + 1) σ a1 a2 = some (0, (ga_up (ga_up σ fM_fault 0 0 a1) fM_faultPlace 0 0 a2)) :=
  ga_blk_eq am_G (am_run d) mt_m_failed 7 0 [(0, 12, 0), (1, 0, a1), (2, 0, a2)] [] σ
set_option maxRecDepth 100000 in
theorem e_m_oddOf (d : Nat) (σ : ga_S) (a1 : Int) : c_m_oddOf (d + 1) σ a1 = ga_ck a1 5002 (if (σ fM_token 0 a1) = 5 then
      some ((-1), σ)
    else
      m_oddOf_14 d σ a1) :=
  ga_blk_eq am_G (am_run d) mt_m_oddOf 10 0 [(0, 12, 0), (1, 0, a1)] [] σ
set_option maxRecDepth 100000 in
theorem e_m_oddOf_14 (d : Nat) (σ : ga_S) (v2 : Int) : m_oddOf_14 d σ v2 = ga_ck v2 5002 (if (σ fM_token 0 v2) = 46 then
      m_oddOf_51 d σ v2
    else
      ga_ck v2 5002 (if (σ fM_token 0 v2) = 1 then
          m_oddOf_51 d σ v2
        else
          ga_ck v2 5002 (if (σ fM_token 0 v2) = 2 then
              m_oddOf_51 d σ v2
            else
              m_oddOf_14 d σ (w32 (v2 + 1))))) :=
  ga_blk_eq am_G (am_run d) mt_m_oddOf 20 14 [(0, 12, 0), (2, 0, v2)] [] σ
set_option maxRecDepth 100000 in
theorem e_m_oddOf_51 (d : Nat) (σ : ga_S) (v2 : Int) : m_oddOf_51 d σ v2 = ga_ck v2 5002 (if (σ fM_token 0 v2) = 2 then
      some (v2, σ)
    else
      some ((-1), σ)) :=
  ga_blk_eq am_G (am_run d) mt_m_oddOf 9 51 [(0, 12, 0), (2, 0, v2)] [] σ
set_option maxRecDepth 100000 in
theorem e_m_readStory (d : Nat) (σ : ga_S) : c_m_readStory (d + 1) σ = if (σ fM_token 0 0) = 1 then
    (c_m_failed d (ga_up (ga_up (ga_up σ fM_fault 0 0 0) fM_sentences 0 0 0) fM_at 0 0 0) 2 (σ fM_place 0 0)).bind fun q1 =>
      m_readStory_36 d q1.2
  else
    m_readStory_36 d (ga_up (ga_up (ga_up σ fM_fault 0 0 0) fM_sentences 0 0 0) fM_at 0 0 0) :=
  ga_blk_eq am_G (am_run d) mt_m_readStory 22 0 [(0, 12, 0)] [] σ
set_option maxRecDepth 100000 in
theorem e_m_readStory_36 (d : Nat) (σ : ga_S) : m_readStory_36 d σ = if (σ fM_fault 0 0) = 0 then
    ga_ck (σ fM_at 0 0) 5002 (if (σ fM_token 0 (σ fM_at 0 0)) = 1 then
        some (0, σ)
      else
        (c_m_oddOf d σ (σ fM_at 0 0)).bind fun q2 =>
          (c_m_sentence d q2.2).bind fun q3 =>
            if q2.1 = (-1) then
              if (q3.2 fM_isBad 0 0) = 0 then
                (c_m_asked d q3.2 (σ fM_at 0 0)).bind fun q4 =>
                  if (q4.2 fM_bestFault 0 0) = 0 then
                    (c_m_does1 d q4.2 (σ fM_at 0 0)).bind fun q5 =>
                      m_readStory_136 d q5.2 (q3.2 fM_at 0 0)
                  else
                    m_readStory_136 d q4.2 (q3.2 fM_at 0 0)
              else
                ga_ck (q3.2 fM_badAt 0 0) 5002 ((c_m_failed d q3.2 2 (q3.2 fM_place 0 (q3.2 fM_badAt 0 0))).bind fun q6 =>
                    m_readStory_170 d q6.2)
            else
              ga_ck q2.1 5002 ((c_m_failed d q3.2 1 (q3.2 fM_place 0 q2.1)).bind fun q7 =>
                  m_readStory_170 d q7.2))
  else
    some (0, σ) :=
  ga_blk_eq am_G (am_run d) mt_m_readStory 37 36 [(0, 12, 0)] [] σ
set_option maxRecDepth 100000 in
theorem e_m_readStory_136 (d : Nat) (σ : ga_S) (v3 : Int) : m_readStory_136 d σ v3 = if (σ fM_bestFault 0 0) = 0 then
    m_readStory_155 d σ v3
  else
    (c_m_failed d σ (σ fM_bestFault 0 0) (σ fM_bestPlace 0 0)).bind fun q8 =>
      m_readStory_155 d q8.2 v3 :=
  ga_blk_eq am_G (am_run d) mt_m_readStory 9 136 [(0, 12, 0), (3, 0, v3)] [] σ
set_option maxRecDepth 100000 in
theorem e_m_readStory_170 (d : Nat) (σ : ga_S) : m_readStory_170 d σ = m_readStory_36 d σ :=
  ga_blk_eq am_G (am_run d) mt_m_readStory 1 170 [(0, 12, 0)] [] σ
set_option maxRecDepth 100000 in
theorem e_m_readStory_155 (d : Nat) (σ : ga_S) (v3 : Int) : m_readStory_155 d σ v3 = m_readStory_170 d (ga_up (ga_up σ fM_at 0 0 v3) fM_sentences 0 0 (w32 ((σ fM_sentences 0 0) + 1))) :=
  ga_blk_eq am_G (am_run d) mt_m_readStory 9 155 [(0, 12, 0), (3, 0, v3)] [] σ

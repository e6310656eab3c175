set_option maxRecDepth 100000 in
theorem e_m_keys (d : Nat) (σ : ga_S) : c_m_keys (d + 1) σ = some (31, σ) :=
  ga_blk_eq am_G (am_run d) mt_m_keys 2 0 [] [] σ
set_option maxRecDepth 100000 in
theorem e_m_in (d : Nat) (σ : ga_S) (a0 a1 a2 : Int) : c_m_in (d + 1) σ a0 a1 a2 = if a0 < a1 then
    some (0, σ)
  else
    if a2 < a0 then
      some (0, σ)
    else
      some (1, σ) :=
  ga_blk_eq am_G (am_run d) mt_m_in 9 0 [(0, 0, a0), (1, 0, a1), (2, 0, a2)] [] σ
set_option maxRecDepth 100000 in
theorem e_m_small (d : Nat) (σ : ga_S) (a0 : Int) : c_m_small (d + 1) σ a0 = (c_m_in d σ a0 65 90).bind fun q1 =>
    if q1.1 = 0 then
      some (a0, q1.2)
    else
      some ((w32 (a0 + 32)), q1.2) :=
  ga_blk_eq am_G (am_run d) mt_m_small 10 0 [(0, 0, a0)] [] σ
set_option maxRecDepth 100000 in
theorem e_m_isLetter (d : Nat) (σ : ga_S) (a0 : Int) : c_m_isLetter (d + 1) σ a0 = (c_m_small d σ a0).bind fun q1 =>
    (c_m_in d q1.2 q1.1 97 122).bind fun q2 =>
      ga_01 q2.1 (some (q2.1, q2.2)) :=
  ga_blk_eq am_G (am_run d) mt_m_isLetter 6 0 [(0, 0, a0)] [] σ
set_option maxRecDepth 100000 in
theorem e_m_feed (d : Nat) (σ : ga_S) (a1 a3 : Int) : c_m_feed (d + 1) σ a1 a3 = if a3 < 1 then
    some ((-1), σ)
  else
    if 8 < a3 then
      some ((-1), σ)
    else
      if 5000 < (w32 ((σ fM_size 0 0) + a3)) then
        some ((-1), σ)
      else
        m_feed_30 d σ a1 (w32 (a3 - 1)) :=
  ga_blk_eq am_G (am_run d) mt_m_feed 16 0 [(0, 12, 0), (1, 1, a1), (3, 0, a3)] [] σ
set_option maxRecDepth 100000 in
theorem e_m_feed_30 (d : Nat) (σ : ga_S) (v1 v4 : Int) : m_feed_30 d σ v1 v4 = if v4 < 0 then
    some ((σ fM_size 0 0), σ)
  else
    ga_ck (σ fM_size 0 0) 5000 (m_feed_30 d (ga_up (ga_up σ fM_tape 0 (σ fM_size 0 0) (w8 (w8 (w32 (ga_lshr v1 (w32 (8 * v4))))))) fM_size 0 0 (w32 ((σ fM_size 0 0) + 1))) v1 (w32 (v4 + (-1)))) :=
  ga_blk_eq am_G (am_run d) mt_m_feed 22 30 [(0, 12, 0), (1, 1, v1), (4, 0, v4)] [] σ
set_option maxRecDepth 100000 in
theorem e_m_wipe (d : Nat) (σ : ga_S) : c_m_wipe (d + 1) σ = some ((σ fM_size 0 0), (ga_up σ fM_size 0 0 0)) :=
  ga_blk_eq am_G (am_run d) mt_m_wipe 8 0 [(0, 12, 0)] [] σ
set_option maxRecDepth 100000 in
theorem e_m_keyOf (d : Nat) (σ : ga_S) (a1 : Int) : c_m_keyOf (d + 1) σ a1 = m_keyOf_2 d σ a1 0 :=
  ga_blk_eq am_G (am_run d) mt_m_keyOf 2 0 [(0, 12, 0), (1, 1, a1)] [] σ
set_option maxRecDepth 100000 in
theorem e_m_keyOf_2 (d : Nat) (σ : ga_S) (v1 v3 : Int) : m_keyOf_2 d σ v1 v3 = if v3 < 55 then
    ga_ck v3 55 (if (ga_lcmp (σ fM_keyWords 0 v3) v1) = 0 then
        some ((w32 (100 + v3)), σ)
      else
        m_keyOf_2 d σ v1 (w32 (v3 + 1)))
  else
    some (3, σ) :=
  ga_blk_eq am_G (am_run d) mt_m_keyOf 14 2 [(0, 12, 0), (1, 1, v1), (3, 0, v3)] [] σ
set_option maxRecDepth 100000 in
theorem e_m_blanks (d : Nat) (σ : ga_S) (a1 : Int) : c_m_blanks (d + 1) σ a1 = m_blanks_4 d σ a1 1 :=
  ga_blk_eq am_G (am_run d) mt_m_blanks 4 0 [(0, 12, 0), (1, 0, a1)] [] σ
set_option maxRecDepth 100000 in
theorem e_m_blanks_4 (d : Nat) (σ : ga_S) (v2 v3 : Int) : m_blanks_4 d σ v2 v3 = if v3 = 0 then
    some (v2, σ)
  else
    m_blanks_10 d σ v2 0 :=
  ga_blk_eq am_G (am_run d) mt_m_blanks 4 4 [(0, 12, 0), (2, 0, v2), (3, 0, v3)] [] σ
set_option maxRecDepth 100000 in
theorem e_m_blanks_10 (d : Nat) (σ : ga_S) (v2 v3 : Int) : m_blanks_10 d σ v2 v3 = if v2 < (σ fM_storySize 0 0) then
    ga_ck v2 5000 (if (σ fM_story 0 v2) = 9 then
        m_blanks_62 d σ v2 v3
      else
        ga_ck v2 5000 (if (σ fM_story 0 v2) = 10 then
            m_blanks_62 d σ v2 v3
          else
            ga_ck v2 5000 (if (σ fM_story 0 v2) = 13 then
                m_blanks_62 d σ v2 v3
              else
                ga_ck v2 5000 (if (σ fM_story 0 v2) = 32 then
                    m_blanks_62 d σ v2 v3
                  else
                    m_blanks_68 d σ v2 v3))))
  else
    m_blanks_68 d σ v2 v3 :=
  ga_blk_eq am_G (am_run d) mt_m_blanks 28 10 [(0, 12, 0), (2, 0, v2), (3, 0, v3)] [] σ
set_option maxRecDepth 100000 in
theorem e_m_blanks_68 (d : Nat) (σ : ga_S) (v2 v3 : Int) : m_blanks_68 d σ v2 v3 = if v2 < (σ fM_storySize 0 0) then
    ga_ck v2 5000 (if (σ fM_story 0 v2) = 91 then
        m_blanks_90 d σ v2 v2
      else
        m_blanks_4 d σ v2 v3)
  else
    m_blanks_4 d σ v2 v3 :=
  ga_blk_eq am_G (am_run d) mt_m_blanks 12 68 [(0, 12, 0), (2, 0, v2), (3, 0, v3)] [] σ
set_option maxRecDepth 100000 in
theorem e_m_blanks_62 (d : Nat) (σ : ga_S) (v2 v3 : Int) : m_blanks_62 d σ v2 v3 = m_blanks_10 d σ (w32 (v2 + 1)) v3 :=
  ga_blk_eq am_G (am_run d) mt_m_blanks 2 62 [(0, 12, 0), (2, 0, v2), (3, 0, v3)] [] σ
set_option maxRecDepth 100000 in
theorem e_m_blanks_90 (d : Nat) (σ : ga_S) (v2 v4 : Int) : m_blanks_90 d σ v2 v4 = if v4 < (σ fM_storySize 0 0) then
    ga_ck v4 5000 (if (σ fM_story 0 v4) = 93 then
        m_blanks_117 d σ v2 v4
      else
        m_blanks_90 d σ v2 (w32 (v4 + 1)))
  else
    m_blanks_117 d σ v2 v4 :=
  ga_blk_eq am_G (am_run d) mt_m_blanks 12 90 [(0, 12, 0), (2, 0, v2), (4, 0, v4)] [] σ
set_option maxRecDepth 100000 in
theorem e_m_blanks_117 (d : Nat) (σ : ga_S) (v2 v4 : Int) : m_blanks_117 d σ v2 v4 = if v4 < (σ fM_storySize 0 0) then
    m_blanks_131 d σ v2 v4 1
  else
    m_blanks_131 d σ v2 v4 0 :=
  ga_blk_eq am_G (am_run d) mt_m_blanks 6 117 [(0, 12, 0), (2, 0, v2), (4, 0, v4)] [] σ
set_option maxRecDepth 100000 in
theorem e_m_blanks_131 (d : Nat) (σ : ga_S) (v2 v4 s0 : Int) : m_blanks_131 d σ v2 v4 s0 = if s0 = 0 then
    m_blanks_144 d σ s0 v2
  else
    m_blanks_144 d σ s0 (w32 (v4 + 1)) :=
  ga_blk_eq am_G (am_run d) mt_m_blanks 7 131 [(0, 12, 0), (2, 0, v2), (4, 0, v4)] [(0, s0)] σ
set_option maxRecDepth 100000 in
theorem e_m_blanks_144 (d : Nat) (σ : ga_S) (v3 s0 : Int) : m_blanks_144 d σ v3 s0 = m_blanks_4 d σ s0 v3 :=
  ga_blk_eq am_G (am_run d) mt_m_blanks 2 144 [(0, 12, 0), (3, 0, v3)] [(0, s0)] σ
set_option maxRecDepth 100000 in
theorem e_m_cut (d : Nat) (σ : ga_S) : c_m_cut (d + 1) σ = (c_m_blanks d σ 0).bind fun q1 =>
    m_cut_8 d q1.2 0 q1.1 :=
  ga_blk_eq am_G (am_run d) mt_m_cut 6 0 [(0, 12, 0)] [] σ
set_option maxRecDepth 100000 in
theorem e_m_cut_8 (d : Nat) (σ : ga_S) (v1 v2 : Int) : m_cut_8 d σ v1 v2 = if v2 < (σ fM_storySize 0 0) then
    if v1 = 0 then
      m_cut_32 d σ v1 v2
    else
      ga_ck (w32 (v1 - 1)) 5002 (if (σ fM_token 0 (w32 (v1 - 1))) = 2 then
          m_cut_439 d σ v1
        else
          m_cut_32 d σ v1 v2)
  else
    m_cut_439 d σ v1 :=
  ga_blk_eq am_G (am_run d) mt_m_cut 14 8 [(0, 12, 0), (1, 0, v1), (2, 0, v2)] [] σ
set_option maxRecDepth 100000 in
theorem e_m_cut_439 (d : Nat) (σ : ga_S) (v1 : Int) : m_cut_439 d σ v1 = ga_ck v1 5002 (ga_ck v1 5002 (some (0, (ga_up (ga_up σ fM_token 0 v1 1) fM_place 0 v1 (σ fM_storySize 0 0))))) :=
  ga_blk_eq am_G (am_run d) mt_m_cut 12 439 [(0, 12, 0), (1, 0, v1)] [] σ
set_option maxRecDepth 100000 in
theorem e_m_cut_32 (d : Nat) (σ : ga_S) (v1 v2 : Int) : m_cut_32 d σ v1 v2 = ga_ck v2 5000 (ga_ck v1 5002 ((c_m_isLetter d (ga_up σ fM_place 0 v1 v2) (σ fM_story 0 v2)).bind fun q2 =>
        if q2.1 = 0 then
          (c_m_in d q2.2 (σ fM_story 0 v2) 48 57).bind fun q3 =>
            if q3.1 = 0 then
              if (σ fM_story 0 v2) = 34 then
                m_cut_281 d q3.2 v1 v2 (w32 (v2 + 1)) 1
              else
                if (σ fM_story 0 v2) = 46 then
                  m_cut_420 d q3.2 v1 (σ fM_story 0 v2) (w32 (v2 + 1)) v1
                else
                  if (σ fM_story 0 v2) = 44 then
                    m_cut_420 d q3.2 v1 (σ fM_story 0 v2) (w32 (v2 + 1)) v1
                  else
                    if (σ fM_story 0 v2) = 59 then
                      m_cut_420 d q3.2 v1 (σ fM_story 0 v2) (w32 (v2 + 1)) v1
                    else
                      if (σ fM_story 0 v2) = 58 then
                        m_cut_420 d q3.2 v1 (σ fM_story 0 v2) (w32 (v2 + 1)) v1
                      else
                        m_cut_425 d q3.2 v1 (w32 (v2 + 1)) 2 v1
            else
              m_cut_174 d q3.2 v1 v2 v2 0
        else
          m_cut_58 d q2.2 v1 v2 (w32 (v2 + 1)))) :=
  ga_blk_eq am_G (am_run d) mt_m_cut 41 32 [(0, 12, 0), (1, 0, v1), (2, 0, v2)] [] σ
set_option maxRecDepth 100000 in
theorem e_m_cut_420 (d : Nat) (σ : ga_S) (v1 v3 v4 s0 : Int) : m_cut_420 d σ v1 v3 v4 s0 = m_cut_425 d σ v1 v4 v3 s0 :=
  ga_blk_eq am_G (am_run d) mt_m_cut 2 420 [(0, 12, 0), (1, 0, v1), (3, 0, v3), (4, 0, v4)] [(0, s0), (93, 0)] σ
set_option maxRecDepth 100000 in
theorem e_m_cut_425 (d : Nat) (σ : ga_S) (v1 v4 s0 s1 : Int) : m_cut_425 d σ v1 v4 s0 s1 = ga_ck s1 5002 (m_cut_426 d (ga_up σ fM_token 0 s1 s0) v1 v4) :=
  ga_blk_eq am_G (am_run d) mt_m_cut 1 425 [(0, 12, 0), (1, 0, v1), (4, 0, v4)] [(0, s0), (0, s1), (93, 0)] σ
set_option maxRecDepth 100000 in
theorem e_m_cut_281 (d : Nat) (σ : ga_S) (v1 v2 v4 v5 : Int) : m_cut_281 d σ v1 v2 v4 v5 = if v4 < (σ fM_storySize 0 0) then
    ga_ck v4 5000 (if (σ fM_story 0 v4) = 34 then
        m_cut_337 d σ v1 v2 v4 v5
      else
        if v5 = 0 then
          m_cut_328 d σ v1 v2 v4
        else
          ga_ck v4 5000 ((c_m_in d σ (σ fM_story 0 v4) 32 126).bind fun q4 =>
              if q4.1 = 0 then
                m_cut_328 d q4.2 v1 v2 v4
              else
                m_cut_329 d q4.2 v1 v2 v4 1))
  else
    m_cut_337 d σ v1 v2 v4 v5 :=
  ga_blk_eq am_G (am_run d) mt_m_cut 22 281 [(0, 12, 0), (1, 0, v1), (2, 0, v2), (4, 0, v4), (5, 0, v5)] [] σ
set_option maxRecDepth 100000 in
theorem e_m_cut_174 (d : Nat) (σ : ga_S) (v1 v2 v4 v5 : Int) : m_cut_174 d σ v1 v2 v4 v5 = if v4 < (σ fM_storySize 0 0) then
    ga_ck v4 5000 ((c_m_in d σ (σ fM_story 0 v4) 48 57).bind fun q5 =>
        if q5.1 = 0 then
          m_cut_241 d q5.2 v1 v2 v4 v5
        else
          if (w32 (v4 - v2)) < 6 then
            ga_ck v4 5000 (m_cut_233 d q5.2 v1 v2 v4 (w64 ((w64 ((w64 (10 * v5)) + (q5.2 fM_story 0 v4))) - 48)))
          else
            m_cut_233 d q5.2 v1 v2 v4 v5)
  else
    m_cut_241 d σ v1 v2 v4 v5 :=
  ga_blk_eq am_G (am_run d) mt_m_cut 29 174 [(0, 12, 0), (1, 0, v1), (2, 0, v2), (4, 0, v4), (5, 1, v5)] [] σ
set_option maxRecDepth 100000 in
theorem e_m_cut_58 (d : Nat) (σ : ga_S) (v1 v2 v4 : Int) : m_cut_58 d σ v1 v2 v4 = if v4 < (σ fM_storySize 0 0) then
    ga_ck v4 5000 ((c_m_isLetter d σ (σ fM_story 0 v4)).bind fun q6 =>
        if q6.1 = 0 then
          m_cut_86 d q6.2 v1 v2 v4
        else
          m_cut_58 d q6.2 v1 v2 (w32 (v4 + 1)))
  else
    m_cut_86 d σ v1 v2 v4 :=
  ga_blk_eq am_G (am_run d) mt_m_cut 12 58 [(0, 12, 0), (1, 0, v1), (2, 0, v2), (4, 0, v4)] [] σ
set_option maxRecDepth 100000 in
theorem e_m_cut_426 (d : Nat) (σ : ga_S) (v1 v4 : Int) : m_cut_426 d σ v1 v4 = (c_m_blanks d σ v4).bind fun q7 =>
    m_cut_8 d q7.2 (w32 (v1 + 1)) q7.1 :=
  ga_blk_eq am_G (am_run d) mt_m_cut 6 426 [(0, 12, 0), (1, 0, v1), (4, 0, v4)] [] σ
set_option maxRecDepth 100000 in
theorem e_m_cut_337 (d : Nat) (σ : ga_S) (v1 v2 v4 v5 : Int) : m_cut_337 d σ v1 v2 v4 v5 = if v5 = 0 then
    m_cut_371 d σ v1 v2 v4 v1
  else
    if v4 < (σ fM_storySize 0 0) then
      if 120 < (w32 ((w32 (v4 - v2)) - 1)) then
        m_cut_371 d σ v1 v2 v4 v1
      else
        m_cut_372 d σ v1 v2 v4 5 v1
    else
      m_cut_371 d σ v1 v2 v4 v1 :=
  ga_blk_eq am_G (am_run d) mt_m_cut 18 337 [(0, 12, 0), (1, 0, v1), (2, 0, v2), (4, 0, v4), (5, 0, v5)] [] σ
set_option maxRecDepth 100000 in
theorem e_m_cut_328 (d : Nat) (σ : ga_S) (v1 v2 v4 : Int) : m_cut_328 d σ v1 v2 v4 = m_cut_329 d σ v1 v2 v4 0 :=
  ga_blk_eq am_G (am_run d) mt_m_cut 1 328 [(0, 12, 0), (1, 0, v1), (2, 0, v2), (4, 0, v4)] [] σ
set_option maxRecDepth 100000 in
theorem e_m_cut_329 (d : Nat) (σ : ga_S) (v1 v2 v4 s0 : Int) : m_cut_329 d σ v1 v2 v4 s0 = m_cut_281 d σ v1 v2 (w32 (v4 + 1)) s0 :=
  ga_blk_eq am_G (am_run d) mt_m_cut 3 329 [(0, 12, 0), (1, 0, v1), (2, 0, v2), (4, 0, v4)] [(0, s0)] σ
set_option maxRecDepth 100000 in
theorem e_m_cut_241 (d : Nat) (σ : ga_S) (v1 v2 v4 v5 : Int) : m_cut_241 d σ v1 v2 v4 v5 = ga_ck v1 5002 (if 6 < (w32 (v4 - v2)) then
      m_cut_268 d (ga_up σ fM_word 0 v1 v5) v1 v4 2 v1
    else
      m_cut_268 d (ga_up σ fM_word 0 v1 v5) v1 v4 4 v1) :=
  ga_blk_eq am_G (am_run d) mt_m_cut 15 241 [(0, 12, 0), (1, 0, v1), (2, 0, v2), (4, 0, v4), (5, 1, v5)] [] σ
set_option maxRecDepth 100000 in
theorem e_m_cut_233 (d : Nat) (σ : ga_S) (v1 v2 v4 s0 : Int) : m_cut_233 d σ v1 v2 v4 s0 = m_cut_174 d σ v1 v2 (w32 (v4 + 1)) s0 :=
  ga_blk_eq am_G (am_run d) mt_m_cut 3 233 [(0, 12, 0), (1, 0, v1), (2, 0, v2), (4, 0, v4)] [(1, s0)] σ
set_option maxRecDepth 100000 in
theorem e_m_cut_86 (d : Nat) (σ : ga_S) (v1 v2 v4 : Int) : m_cut_86 d σ v1 v2 v4 = if 12 < (w32 (v4 - v2)) then
    m_cut_100 d σ v1 v2 v4 0
  else
    m_cut_100 d σ v1 v2 v4 1 :=
  ga_blk_eq am_G (am_run d) mt_m_cut 7 86 [(0, 12, 0), (1, 0, v1), (2, 0, v2), (4, 0, v4)] [] σ
set_option maxRecDepth 100000 in
theorem e_m_cut_371 (d : Nat) (σ : ga_S) (v1 v2 v4 s0 : Int) : m_cut_371 d σ v1 v2 v4 s0 = m_cut_372 d σ v1 v2 v4 2 s0 :=
  ga_blk_eq am_G (am_run d) mt_m_cut 1 371 [(0, 12, 0), (1, 0, v1), (2, 0, v2), (4, 0, v4)] [(0, s0), (93, 0)] σ
set_option maxRecDepth 100000 in
theorem e_m_cut_372 (d : Nat) (σ : ga_S) (v1 v2 v4 s0 s1 : Int) : m_cut_372 d σ v1 v2 v4 s0 s1 = ga_ck s1 5002 (ga_ck v1 5002 (m_cut_426 d (ga_up (ga_up σ fM_token 0 s1 s0) fM_length 0 v1 (w32 ((w32 (v4 - v2)) - 1))) v1 (w32 (v4 + 1)))) :=
  ga_blk_eq am_G (am_run d) mt_m_cut 12 372 [(0, 12, 0), (1, 0, v1), (2, 0, v2), (4, 0, v4)] [(0, s0), (0, s1), (93, 0)] σ
set_option maxRecDepth 100000 in
theorem e_m_cut_268 (d : Nat) (σ : ga_S) (v1 v4 s0 s1 : Int) : m_cut_268 d σ v1 v4 s0 s1 = ga_ck s1 5002 (m_cut_426 d (ga_up σ fM_token 0 s1 s0) v1 v4) :=
  ga_blk_eq am_G (am_run d) mt_m_cut 2 268 [(0, 12, 0), (1, 0, v1), (4, 0, v4)] [(0, s0), (0, s1), (93, 0)] σ
set_option maxRecDepth 100000 in
theorem e_m_cut_100 (d : Nat) (σ : ga_S) (v1 v2 v4 s0 : Int) : m_cut_100 d σ v1 v2 v4 s0 = if s0 = 0 then
    m_cut_128 d σ v1 v4 s0 0 v1
  else
    (c_m_wordOf_story d σ v2 (w32 (v4 - v2))).bind fun q8 =>
      m_cut_128 d q8.2 v1 v4 s0 q8.1 v1 :=
  ga_blk_eq am_G (am_run d) mt_m_cut 14 100 [(0, 12, 0), (1, 0, v1), (2, 0, v2), (4, 0, v4)] [(0, s0)] σ
set_option maxRecDepth 100000 in
theorem e_m_cut_128 (d : Nat) (σ : ga_S) (v1 v4 v5 s0 s1 : Int) : m_cut_128 d σ v1 v4 v5 s0 s1 = ga_ck s1 5002 (if v5 = 0 then
      m_cut_153 d (ga_up σ fM_word 0 s1 s0) v1 v4 2 v1
    else
      ga_ck v1 5002 ((c_m_keyOf d (ga_up σ fM_word 0 s1 s0) ((ga_up σ fM_word 0 s1 s0) fM_word 0 v1)).bind fun q9 =>
          m_cut_153 d q9.2 v1 v4 q9.1 v1)) :=
  ga_blk_eq am_G (am_run d) mt_m_cut 13 128 [(0, 12, 0), (1, 0, v1), (4, 0, v4), (5, 0, v5)] [(1, s0), (0, s1), (96, 0)] σ
set_option maxRecDepth 100000 in
theorem e_m_cut_153 (d : Nat) (σ : ga_S) (v1 v4 s0 s1 : Int) : m_cut_153 d σ v1 v4 s0 s1 = ga_ck s1 5002 (m_cut_426 d (ga_up σ fM_token 0 s1 s0) v1 v4) :=
  ga_blk_eq am_G (am_run d) mt_m_cut 2 153 [(0, 12, 0), (1, 0, v1), (4, 0, v4)] [(0, s0), (0, s1), (93, 0)] σ
set_option maxRecDepth 100000 in
theorem e_m_find (d : Nat) (σ : ga_S) (a1 a3 a5 a7 : Int) : c_m_find (d + 1) σ a1 a3 a5 a7 = m_find_3 d σ a1 a3 a5 a7 0 :=
  ga_blk_eq am_G (am_run d) mt_m_find 2 0 [(0, 12, 0), (1, 1, a1), (3, 1, a3), (5, 1, a5), (7, 0, a7)] [] σ
set_option maxRecDepth 100000 in
theorem e_m_find_3 (d : Nat) (σ : ga_S) (v1 v3 v5 v7 v8 : Int) : m_find_3 d σ v1 v3 v5 v7 v8 = if v8 < (σ fM_lexes 0 0) then
    ga_ck v8 300 (if (σ fM_lexSize 0 v8) = v7 then
        ga_ck (w32 (3 * v8)) 900 (if (ga_lcmp (σ fM_lexWord 0 (w32 (3 * v8))) v1) = 0 then
            if v7 < 2 then
              m_find_60 d σ v1 v3 v5 v7 v8
            else
              ga_ck (w32 ((w32 (3 * v8)) + 1)) 900 (if (ga_lcmp (σ fM_lexWord 0 (w32 ((w32 (3 * v8)) + 1))) v3) = 0 then
                  m_find_60 d σ v1 v3 v5 v7 v8
                else
                  m_find_107 d σ v1 v3 v5 v7 v8)
          else
            m_find_107 d σ v1 v3 v5 v7 v8)
      else
        m_find_107 d σ v1 v3 v5 v7 v8)
  else
    some ((-1), σ) :=
  ga_blk_eq am_G (am_run d) mt_m_find 33 3 [(0, 12, 0), (1, 1, v1), (3, 1, v3), (5, 1, v5), (7, 0, v7), (8, 0, v8)] [] σ
set_option maxRecDepth 100000 in
theorem e_m_find_107 (d : Nat) (σ : ga_S) (v1 v3 v5 v7 v8 : Int) : m_find_107 d σ v1 v3 v5 v7 v8 = m_find_3 d σ v1 v3 v5 v7 (w32 (v8 + 1)) :=
  ga_blk_eq am_G (am_run d) mt_m_find 2 107 [(0, 12, 0), (1, 1, v1), (3, 1, v3), (5, 1, v5), (7, 0, v7), (8, 0, v8)] [] σ
set_option maxRecDepth 100000 in
theorem e_m_find_60 (d : Nat) (σ : ga_S) (v1 v3 v5 v7 v8 : Int) : m_find_60 d σ v1 v3 v5 v7 v8 = if v7 < 3 then
    m_find_83 d σ v1 v3 v5 v7 v8
  else
    ga_ck (w32 ((w32 (3 * v8)) + 2)) 900 (if (ga_lcmp (σ fM_lexWord 0 (w32 ((w32 (3 * v8)) + 2))) v5) = 0 then
        m_find_83 d σ v1 v3 v5 v7 v8
      else
        m_find_107 d σ v1 v3 v5 v7 v8) :=
  ga_blk_eq am_G (am_run d) mt_m_find 14 60 [(0, 12, 0), (1, 1, v1), (3, 1, v3), (5, 1, v5), (7, 0, v7), (8, 0, v8)] [] σ
set_option maxRecDepth 100000 in
theorem e_m_find_83 (d : Nat) (σ : ga_S) (v1 v3 v5 v7 v8 : Int) : m_find_83 d σ v1 v3 v5 v7 v8 = ga_ck v8 300 (if (σ fM_lexLong 0 v8) = 0 then
      ga_ck v8 300 (if (σ fM_lexSort 0 v8) = (-1) then
          m_find_107 d σ v1 v3 v5 v7 v8
        else
          some (v8, σ))
    else
      m_find_107 d σ v1 v3 v5 v7 v8) :=
  ga_blk_eq am_G (am_run d) mt_m_find 13 83 [(0, 12, 0), (1, 1, v1), (3, 1, v3), (5, 1, v5), (7, 0, v7), (8, 0, v8)] [] σ
set_option maxRecDepth 100000 in
theorem e_m_mean (d : Nat) (σ : ga_S) (a1 a2 : Int) : c_m_mean (d + 1) σ a1 a2 = if a2 < 1 then
    m_mean_10 d σ
  else
    if 3 < a2 then
      m_mean_10 d σ
    else
      ga_ck a1 5002 (if 1 < a2 then
          ga_ck (w32 (a1 + 1)) 5002 (m_mean_38 d σ a1 a2 (σ fM_word 0 (w32 (a1 + 1))) (σ fM_word 0 a1))
        else
          m_mean_38 d σ a1 a2 0 (σ fM_word 0 a1)) :=
  ga_blk_eq am_G (am_run d) mt_m_mean 21 0 [(0, 12, 0), (1, 0, a1), (2, 0, a2)] [] σ
set_option maxRecDepth 100000 in
theorem e_m_mean_10 (d : Nat) (σ : ga_S) : m_mean_10 d σ = some ((-1), σ) :=
  ga_blk_eq am_G (am_run d) mt_m_mean 3 10 [] [] σ
set_option maxRecDepth 100000 in
theorem e_m_mean_38 (d : Nat) (σ : ga_S) (v1 v2 s0 s1 : Int) : m_mean_38 d σ v1 v2 s0 s1 = if 2 < v2 then
    ga_ck (w32 (v1 + 2)) 5002 (m_mean_55 d σ v2 (σ fM_word 0 (w32 (v1 + 2))) s0 s1)
  else
    m_mean_55 d σ v2 0 s0 s1 :=
  ga_blk_eq am_G (am_run d) mt_m_mean 10 38 [(0, 12, 0), (1, 0, v1), (2, 0, v2)] [(1, s0), (1, s1), (12, 0)] σ
set_option maxRecDepth 100000 in
theorem e_m_mean_55 (d : Nat) (σ : ga_S) (v2 s0 s1 s2 : Int) : m_mean_55 d σ v2 s0 s1 s2 = (c_m_find d σ s2 s1 s0 v2).bind fun q1 =>
    some (q1.1, q1.2) :=
  ga_blk_eq am_G (am_run d) mt_m_mean 3 55 [(2, 0, v2)] [(1, s0), (1, s1), (1, s2), (12, 0)] σ
set_option maxRecDepth 100000 in
theorem e_m_means (d : Nat) (σ : ga_S) (a1 a2 a3 : Int) : c_m_means (d + 1) σ a1 a2 a3 = (c_m_mean d σ a1 a2).bind fun q1 =>
    if q1.1 = (-1) then
      some ((-1), q1.2)
    else
      ga_ck q1.1 300 (if (q1.2 fM_lexSort 0 q1.1) = a3 then
          ga_ck q1.1 300 (some ((q1.2 fM_lexIndex 0 q1.1), q1.2))
        else
          some ((-1), q1.2)) :=
  ga_blk_eq am_G (am_run d) mt_m_means 20 0 [(0, 12, 0), (1, 0, a1), (2, 0, a2), (3, 0, a3)] [] σ
set_option maxRecDepth 100000 in
theorem e_m_tell (d : Nat) (σ : ga_S) (a1 a2 a3 a5 a7 a9 : Int) : c_m_tell (d + 1) σ a1 a2 a3 a5 a7 a9 = ga_ck (σ fM_lexes 0 0) 300 (ga_ck (w32 (3 * (σ fM_lexes 0 0))) 900 (ga_ck (w32 ((w32 (3 * (σ fM_lexes 0 0))) + 1)) 900 (ga_ck (w32 ((w32 (3 * (σ fM_lexes 0 0))) + 2)) 900 (ga_ck (σ fM_lexes 0 0) 300 (ga_ck (σ fM_lexes 0 0) 300 (ga_ck (σ fM_lexes 0 0) 300 (some (0, (ga_up (ga_up (ga_up (ga_up (ga_up (ga_up (ga_up (ga_up σ fM_lexSize 0 (σ fM_lexes 0 0) a9) fM_lexWord 0 (w32 (3 * (σ fM_lexes 0 0))) a3) fM_lexWord 0 (w32 ((w32 (3 * (σ fM_lexes 0 0))) + 1)) a5) fM_lexWord 0 (w32 ((w32 (3 * (σ fM_lexes 0 0))) + 2)) a7) fM_lexSort 0 (σ fM_lexes 0 0) a1) fM_lexIndex 0 (σ fM_lexes 0 0) a2) fM_lexLong 0 (σ fM_lexes 0 0) 0) fM_lexes 0 0 (w32 ((σ fM_lexes 0 0) + 1))))))))))) :=
  ga_blk_eq am_G (am_run d) mt_m_tell 59 0 [(0, 12, 0), (1, 0, a1), (2, 0, a2), (3, 1, a3), (5, 1, a5), (7, 1, a7), (9, 0, a9)] [] σ
set_option maxRecDepth 100000 in
theorem e_m_tellTokens (d : Nat) (σ : ga_S) (a1 a2 a3 a4 : Int) : c_m_tellTokens (d + 1) σ a1 a2 a3 a4 = ga_ck a3 5002 (if 1 < a4 then
      ga_ck (w32 (a3 + 1)) 5002 (m_tellTokens_27 d σ a3 a4 (σ fM_word 0 (w32 (a3 + 1))) (σ fM_word 0 a3) a2 a1)
    else
      m_tellTokens_27 d σ a3 a4 0 (σ fM_word 0 a3) a2 a1) :=
  ga_blk_eq am_G (am_run d) mt_m_tellTokens 17 0 [(0, 12, 0), (1, 0, a1), (2, 0, a2), (3, 0, a3), (4, 0, a4)] [] σ
set_option maxRecDepth 100000 in
theorem e_m_tellTokens_27 (d : Nat) (σ : ga_S) (v3 v4 s0 s1 s2 s3 : Int) : m_tellTokens_27 d σ v3 v4 s0 s1 s2 s3 = if 2 < v4 then
    ga_ck (w32 (v3 + 2)) 5002 (m_tellTokens_45 d σ v4 (σ fM_word 0 (w32 (v3 + 2))) s0 s1 s2 s3)
  else
    m_tellTokens_45 d σ v4 0 s0 s1 s2 s3 :=
  ga_blk_eq am_G (am_run d) mt_m_tellTokens 10 27 [(0, 12, 0), (3, 0, v3), (4, 0, v4)] [(1, s0), (1, s1), (0, s2), (0, s3), (12, 0)] σ
set_option maxRecDepth 100000 in
theorem e_m_tellTokens_45 (d : Nat) (σ : ga_S) (v4 s0 s1 s2 s3 s4 : Int) : m_tellTokens_45 d σ v4 s0 s1 s2 s3 s4 = (c_m_tell d σ s4 s3 s2 s1 s0 v4).bind fun q1 =>
    some (0, q1.2) :=
  ga_blk_eq am_G (am_run d) mt_m_tellTokens 3 45 [(4, 0, v4)] [(1, s0), (1, s1), (1, s2), (0, s3), (0, s4), (12, 0)] σ
set_option maxRecDepth 100000 in
theorem e_m_packed (d : Nat) (σ : ga_S) (a0 : Int) : c_m_packed (d + 1) σ a0 = m_packed_4 d σ a0 0 0 :=
  ga_blk_eq am_G (am_run d) mt_m_packed 4 0 [(0, 2, a0)] [] σ
set_option maxRecDepth 100000 in
theorem e_m_packed_4 (d : Nat) (σ : ga_S) (v0 v1 v3 : Int) : m_packed_4 d σ v0 v1 v3 = (p_len d σ v0).bind fun q1 =>
    if v3 < q1.1 then
      (p_chr d q1.2 v0 v3).bind fun q2 =>
        m_packed_4 d q2.2 v0 (ga_lor (ga_lshl v1 5) (w32 (q2.1 - 96))) (w32 (v3 + 1))
    else
      some (v1, q1.2) :=
  ga_blk_eq am_G (am_run d) mt_m_packed 17 4 [(0, 2, v0), (1, 1, v1), (3, 0, v3)] [] σ
set_option maxRecDepth 100000 in
theorem e_m_tellWord (d : Nat) (σ : ga_S) (a1 a2 a3 : Int) : c_m_tellWord (d + 1) σ a1 a2 a3 = (c_m_packed d σ a3).bind fun q1 =>
    (c_m_tell d q1.2 a1 a2 q1.1 0 0 1).bind fun q2 =>
      some (0, q2.2) :=
  ga_blk_eq am_G (am_run d) mt_m_tellWord 10 0 [(0, 12, 0), (1, 0, a1), (2, 0, a2), (3, 2, a3)] [] σ
set_option maxRecDepth 100000 in
theorem e_m_lexOf (d : Nat) (σ : ga_S) (a1 a2 : Int) : c_m_lexOf (d + 1) σ a1 a2 = m_lexOf_2 d σ a1 a2 0 :=
  ga_blk_eq am_G (am_run d) mt_m_lexOf 2 0 [(0, 12, 0), (1, 0, a1), (2, 0, a2)] [] σ
set_option maxRecDepth 100000 in
theorem e_m_lexOf_2 (d : Nat) (σ : ga_S) (v1 v2 v3 : Int) : m_lexOf_2 d σ v1 v2 v3 = if v3 < (σ fM_lexes 0 0) then
    ga_ck v3 300 (if (σ fM_lexSort 0 v3) = v1 then
        ga_ck v3 300 (if (σ fM_lexIndex 0 v3) = v2 then
            some (v3, σ)
          else
            m_lexOf_32 d σ v1 v2 v3)
      else
        m_lexOf_32 d σ v1 v2 v3)
  else
    some ((-1), σ) :=
  ga_blk_eq am_G (am_run d) mt_m_lexOf 18 2 [(0, 12, 0), (1, 0, v1), (2, 0, v2), (3, 0, v3)] [] σ
set_option maxRecDepth 100000 in
theorem e_m_lexOf_32 (d : Nat) (σ : ga_S) (v1 v2 v3 : Int) : m_lexOf_32 d σ v1 v2 v3 = m_lexOf_2 d σ v1 v2 (w32 (v3 + 1)) :=
  ga_blk_eq am_G (am_run d) mt_m_lexOf 2 32 [(0, 12, 0), (1, 0, v1), (2, 0, v2), (3, 0, v3)] [] σ
set_option maxRecDepth 100000 in
theorem e_m_addKind (d : Nat) (σ : ga_S) (a1 : Int) : c_m_addKind (d + 1) σ a1 = ga_ck (σ fM_kinds 0 0) 16 (m_addKind_12 d (ga_up σ fM_above 0 (σ fM_kinds 0 0) a1) 0) :=
  ga_blk_eq am_G (am_run d) mt_m_addKind 8 0 [(0, 12, 0), (1, 0, a1)] [] σ
set_option maxRecDepth 100000 in
theorem e_m_addKind_12 (d : Nat) (σ : ga_S) (v2 : Int) : m_addKind_12 d σ v2 = if v2 < 12 then
    ga_ck (w32 ((w32 (12 * (σ fM_kinds 0 0))) + v2)) 192 (ga_ck (w32 ((w32 (12 * (σ fM_kinds 0 0))) + v2)) 192 (m_addKind_12 d (ga_up (ga_up σ fM_kindHas 0 (w32 ((w32 (12 * (σ fM_kinds 0 0))) + v2)) 0) fM_kindTold 0 (w32 ((w32 (12 * (σ fM_kinds 0 0))) + v2)) 0) (w32 (v2 + 1))))
  else
    m_addKind_56 d σ 0 :=
  ga_blk_eq am_G (am_run d) mt_m_addKind 25 12 [(0, 12, 0), (2, 0, v2)] [] σ
set_option maxRecDepth 100000 in
theorem e_m_addKind_56 (d : Nat) (σ : ga_S) (v2 : Int) : m_addKind_56 d σ v2 = if v2 < 24 then
    ga_ck (w32 ((w32 (24 * (σ fM_kinds 0 0))) + v2)) 384 (m_addKind_56 d (ga_up σ fM_kindIs 0 (w32 ((w32 (24 * (σ fM_kinds 0 0))) + v2)) 0) (w32 (v2 + 1)))
  else
    some ((w32 ((w32 ((σ fM_kinds 0 0) + 1)) - 1)), (ga_up σ fM_kinds 0 0 (w32 ((σ fM_kinds 0 0) + 1)))) :=
  ga_blk_eq am_G (am_run d) mt_m_addKind 15 56 [(0, 12, 0), (2, 0, v2)] [] σ
set_option maxRecDepth 100000 in
theorem e_m_addObject (d : Nat) (σ : ga_S) (a1 : Int) : c_m_addObject (d + 1) σ a1 = ga_ck (σ fM_objects 0 0) 24 (ga_ck (σ fM_objects 0 0) 24 (ga_ck (σ fM_objects 0 0) 24 (m_addObject_32 d (ga_up (ga_up (ga_up σ fM_kindOf 0 (σ fM_objects 0 0) a1) fM_way 0 (σ fM_objects 0 0) 0) fM_there 0 (σ fM_objects 0 0) (-1)) 0))) :=
  ga_blk_eq am_G (am_run d) mt_m_addObject 20 0 [(0, 12, 0), (1, 0, a1)] [] σ
set_option maxRecDepth 100000 in
theorem e_m_addObject_32 (d : Nat) (σ : ga_S) (v2 : Int) : m_addObject_32 d σ v2 = if v2 < 24 then
    ga_ck (w32 ((w32 (24 * (σ fM_objects 0 0))) + v2)) 576 (m_addObject_32 d (ga_up σ fM_objectIs 0 (w32 ((w32 (24 * (σ fM_objects 0 0))) + v2)) 0) (w32 (v2 + 1)))
  else
    m_addObject_61 d σ 0 :=
  ga_blk_eq am_G (am_run d) mt_m_addObject 15 32 [(0, 12, 0), (2, 0, v2)] [] σ
set_option maxRecDepth 100000 in
theorem e_m_addObject_61 (d : Nat) (σ : ga_S) (v2 : Int) : m_addObject_61 d σ v2 = if v2 < 12 then
    ga_ck (w32 ((w32 (12 * (σ fM_objects 0 0))) + v2)) 288 (m_addObject_61 d (ga_up σ fM_objectTold 0 (w32 ((w32 (12 * (σ fM_objects 0 0))) + v2)) 0) (w32 (v2 + 1)))
  else
    some ((w32 ((w32 ((σ fM_objects 0 0) + 1)) - 1)), (ga_up σ fM_objects 0 0 (w32 ((σ fM_objects 0 0) + 1)))) :=
  ga_blk_eq am_G (am_run d) mt_m_addObject 15 61 [(0, 12, 0), (2, 0, v2)] [] σ
set_option maxRecDepth 100000 in
theorem e_m_addAdjective (d : Nat) (σ : ga_S) (a1 a2 : Int) : c_m_addAdjective (d + 1) σ a1 a2 = ga_ck (σ fM_adjectives 0 0) 24 (ga_ck (σ fM_adjectives 0 0) 24 (ga_ck (σ fM_adjectives 0 0) 24 (some ((w32 ((w32 ((σ fM_adjectives 0 0) + 1)) - 1)), (ga_up (ga_up (ga_up (ga_up σ fM_adjectiveKind 0 (σ fM_adjectives 0 0) a1) fM_contrary 0 (σ fM_adjectives 0 0) a2) fM_definedTests 0 (σ fM_adjectives 0 0) 0) fM_adjectives 0 0 (w32 ((σ fM_adjectives 0 0) + 1))))))) :=
  ga_blk_eq am_G (am_run d) mt_m_addAdjective 29 0 [(0, 12, 0), (1, 0, a1), (2, 0, a2)] [] σ
set_option maxRecDepth 100000 in
theorem e_m_addAction (d : Nat) (σ : ga_S) (a1 : Int) : c_m_addAction (d + 1) σ a1 = ga_ck (σ fM_actions 0 0) 12 (some ((w32 ((w32 ((σ fM_actions 0 0) + 1)) - 1)), (ga_up (ga_up σ fM_actionKind 0 (σ fM_actions 0 0) a1) fM_actions 0 0 (w32 ((σ fM_actions 0 0) + 1))))) :=
  ga_blk_eq am_G (am_run d) mt_m_addAction 17 0 [(0, 12, 0), (1, 0, a1)] [] σ
set_option maxRecDepth 100000 in
theorem e_m_firstCommand (d : Nat) (σ : ga_S) (a1 a2 a3 : Int) : c_m_firstCommand (d + 1) σ a1 a2 a3 = ga_ck (σ fM_commands 0 0) 20 ((p_len d (ga_up σ fM_commandAction 0 (σ fM_commands 0 0) a1) a2).bind fun q1 =>
      if 0 < q1.1 then
        (c_m_packed d q1.2 a2).bind fun q2 =>
          ga_ck (w32 (8 * (σ fM_commands 0 0))) 160 (m_firstCommand_41 d (ga_up q2.2 fM_commandWord 0 (w32 (8 * (σ fM_commands 0 0))) q2.1) a3 (σ fM_commands 0 0) 1)
      else
        m_firstCommand_41 d q1.2 a3 (σ fM_commands 0 0) 0) :=
  ga_blk_eq am_G (am_run d) mt_m_firstCommand 23 0 [(0, 12, 0), (1, 0, a1), (2, 2, a2), (3, 0, a3)] [] σ
set_option maxRecDepth 100000 in
theorem e_m_firstCommand_41 (d : Nat) (σ : ga_S) (v3 v4 v5 : Int) : m_firstCommand_41 d σ v3 v4 v5 = if v3 = (-1) then
    m_firstCommand_63 d σ v3 v4 v5
  else
    ga_ck (w32 ((w32 (8 * v4)) + v5)) 160 (m_firstCommand_63 d (ga_up σ fM_commandWord 0 (w32 ((w32 (8 * v4)) + v5)) 0) v3 v4 (w32 (v5 + 1))) :=
  ga_blk_eq am_G (am_run d) mt_m_firstCommand 13 41 [(0, 12, 0), (3, 0, v3), (4, 0, v4), (5, 0, v5)] [] σ
set_option maxRecDepth 100000 in
theorem e_m_firstCommand_63 (d : Nat) (σ : ga_S) (v3 v4 v5 : Int) : m_firstCommand_63 d σ v3 v4 v5 = ga_ck v4 20 (ga_ck v4 20 (some (0, (ga_up (ga_up (ga_up σ fM_commandSize 0 v4 v5) fM_commandKind 0 v4 v3) fM_commands 0 0 (w32 ((σ fM_commands 0 0) + 1)))))) :=
  ga_blk_eq am_G (am_run d) mt_m_firstCommand 17 63 [(0, 12, 0), (3, 0, v3), (4, 0, v4), (5, 0, v5)] [] σ
set_option maxRecDepth 100000 in
theorem e_m_direction (d : Nat) (σ : ga_S) (a0 : Int) : c_m_direction (d + 1) σ a0 = if a0 = 0 then
    some (32, σ)
  else
    if a0 = 1 then
      some (33, σ)
    else
      if a0 = 2 then
        some (34, σ)
      else
        if a0 = 3 then
          some (35, σ)
        else
          if a0 = 4 then
            some (36, σ)
          else
            some (37, σ) :=
  ga_blk_eq am_G (am_run d) mt_m_direction 17 0 [(0, 0, a0)] [] σ
set_option maxRecDepth 100000 in
theorem e_m_begin (d : Nat) (σ : ga_S) : c_m_begin (d + 1) σ = m_begin_87 d (ga_up (ga_up (ga_up (ga_up (ga_up (ga_up (ga_up (ga_up (ga_up (ga_up (ga_up (ga_up (ga_up (ga_up (ga_up (ga_up (ga_up σ fM_lexes 0 0 0) fM_kinds 0 0 0) fM_types 0 0 2) fM_objects 0 0 0) fM_adjectives 0 0 0) fM_values 0 0 0) fM_properties 0 0 1) fM_relations 0 0 0) fM_verbs 0 0 0) fM_actions 0 0 0) fM_ways 0 0 0) fM_commands 0 0 0) fM_rules 0 0 0) fM_tests 0 0 0) fM_phrases 0 0 0) fM_described 0 0 (-1)) fM_outSize 0 0 0) 0 :=
  ga_blk_eq am_G (am_run d) mt_m_begin 53 0 [(0, 12, 0)] [] σ
set_option maxRecDepth 100000 in
theorem e_m_begin_87 (d : Nat) (σ : ga_S) (v1 : Int) : m_begin_87 d σ v1 = if v1 < 5 then
    if v1 < 2 then
      m_begin_103 d σ v1 (-1)
    else
      m_begin_103 d σ v1 0
  else
    (c_m_tellWord d σ 2 0 10).bind fun q1 =>
      (c_m_tellWord d q1.2 2 1 11).bind fun q2 =>
        (c_m_addAdjective d q2.2 0 1).bind fun q3 =>
          (c_m_addAdjective d q3.2 0 0).bind fun q4 =>
            (c_m_tellWord d q4.2 5 0 12).bind fun q5 =>
              (c_m_tellWord d q5.2 5 1 13).bind fun q6 =>
                (c_m_tellWord d (ga_up (ga_up (ga_up q6.2 fM_propertyType 0 0 1) fM_kindHas 0 0 1) fM_kindHas 0 12 1) 7 0 14).bind fun q7 =>
                  (c_m_addObject d q7.2 4).bind fun q8 =>
                    (c_m_tellWord d q8.2 4 0 15).bind fun q9 =>
                      m_begin_316 d q9.2 0 :=
  ga_blk_eq am_G (am_run d) mt_m_begin 64 87 [(0, 12, 0), (1, 0, v1)] [] σ
set_option maxRecDepth 100000 in
theorem e_m_begin_316 (d : Nat) (σ : ga_S) (v1 : Int) : m_begin_316 d σ v1 = if v1 < 5 then
    if v1 = 0 then
      m_begin_341 d σ v1 (-1)
    else
      if v1 = 4 then
        m_begin_341 d σ v1 (-2)
      else
        m_begin_341 d σ v1 0
  else
    m_begin_406 d σ 0 :=
  ga_blk_eq am_G (am_run d) mt_m_begin 11 316 [(0, 12, 0), (1, 0, v1)] [] σ
set_option maxRecDepth 100000 in
theorem e_m_begin_103 (d : Nat) (σ : ga_S) (v1 s0 : Int) : m_begin_103 d σ v1 s0 = (c_m_addKind d σ s0).bind fun q10 =>
    if v1 = 0 then
      m_begin_156 d q10.2 v1 0 v1 0
    else
      if v1 = 1 then
        m_begin_156 d q10.2 v1 2 v1 0
      else
        if v1 = 2 then
          m_begin_156 d q10.2 v1 4 v1 0
        else
          if v1 = 3 then
            m_begin_156 d q10.2 v1 6 v1 0
          else
            m_begin_156 d q10.2 v1 8 v1 0 :=
  ga_blk_eq am_G (am_run d) mt_m_begin 18 103 [(0, 12, 0), (1, 0, v1)] [(0, s0), (12, 0)] σ
set_option maxRecDepth 100000 in
theorem e_m_begin_406 (d : Nat) (σ : ga_S) (v1 : Int) : m_begin_406 d σ v1 = if v1 < 6 then
    (c_m_direction d σ v1).bind fun q18 =>
      (c_m_tellWord d q18.2 12 v1 q18.1).bind fun q19 =>
        m_begin_406 d q19.2 (w32 (v1 + 1))
  else
    (c_m_firstCommand d σ 0 22 (-1)).bind fun q11 =>
      (c_m_firstCommand d q11.2 1 23 0).bind fun q12 =>
        (c_m_firstCommand d q12.2 1 24 0).bind fun q13 =>
          (c_m_firstCommand d q13.2 2 25 0).bind fun q14 =>
            (c_m_firstCommand d q14.2 3 26 0).bind fun q15 =>
              (c_m_firstCommand d q15.2 4 27 (-2)).bind fun q16 =>
                (c_m_firstCommand d q16.2 4 28 (-2)).bind fun q17 =>
                  m_begin_496 d q17.2 0 :=
  ga_blk_eq am_G (am_run d) mt_m_begin 40 406 [(0, 12, 0), (1, 0, v1)] [] σ
set_option maxRecDepth 100000 in
theorem e_m_begin_341 (d : Nat) (σ : ga_S) (v1 s0 : Int) : m_begin_341 d σ v1 s0 = (c_m_addAction d σ s0).bind fun q20 =>
    if v1 = 0 then
      m_begin_395 d q20.2 v1 16 v1 11
    else
      if v1 = 1 then
        m_begin_395 d q20.2 v1 17 v1 11
      else
        if v1 = 2 then
          m_begin_395 d q20.2 v1 18 v1 11
        else
          if v1 = 3 then
            m_begin_395 d q20.2 v1 19 v1 11
          else
            m_begin_395 d q20.2 v1 20 v1 11 :=
  ga_blk_eq am_G (am_run d) mt_m_begin 18 341 [(0, 12, 0), (1, 0, v1)] [(0, s0), (12, 0)] σ
set_option maxRecDepth 100000 in
theorem e_m_begin_156 (d : Nat) (σ : ga_S) (v1 s0 s1 s2 : Int) : m_begin_156 d σ v1 s0 s1 s2 = (c_m_tellWord d σ s2 s1 s0).bind fun q21 =>
    if v1 = 0 then
      m_begin_208 d q21.2 v1 1 v1 1
    else
      if v1 = 1 then
        m_begin_208 d q21.2 v1 3 v1 1
      else
        if v1 = 2 then
          m_begin_208 d q21.2 v1 5 v1 1
        else
          if v1 = 3 then
            m_begin_208 d q21.2 v1 7 v1 1
          else
            m_begin_208 d q21.2 v1 9 v1 1 :=
  ga_blk_eq am_G (am_run d) mt_m_begin 17 156 [(0, 12, 0), (1, 0, v1)] [(2, s0), (0, s1), (0, s2), (12, 0)] σ
set_option maxRecDepth 100000 in
theorem e_m_begin_496 (d : Nat) (σ : ga_S) (v1 : Int) : m_begin_496 d σ v1 = if v1 < 3456 then
    ga_ck v1 3456 (m_begin_496 d (ga_up σ fM_related 0 v1 0) (w32 (v1 + 1)))
  else
    some (0, σ) :=
  ga_blk_eq am_G (am_run d) mt_m_begin 10 496 [(0, 12, 0), (1, 0, v1)] [] σ
set_option maxRecDepth 100000 in
theorem e_m_begin_395 (d : Nat) (σ : ga_S) (v1 s0 s1 s2 : Int) : m_begin_395 d σ v1 s0 s1 s2 = (c_m_tellWord d σ s2 s1 s0).bind fun q22 =>
    m_begin_316 d q22.2 (w32 (v1 + 1)) :=
  ga_blk_eq am_G (am_run d) mt_m_begin 3 395 [(0, 12, 0), (1, 0, v1)] [(2, s0), (0, s1), (0, s2), (12, 0)] σ
set_option maxRecDepth 100000 in
theorem e_m_begin_208 (d : Nat) (σ : ga_S) (v1 s0 s1 s2 : Int) : m_begin_208 d σ v1 s0 s1 s2 = (c_m_tellWord d σ s2 s1 s0).bind fun q23 =>
    m_begin_87 d q23.2 (w32 (v1 + 1)) :=
  ga_blk_eq am_G (am_run d) mt_m_begin 3 208 [(0, 12, 0), (1, 0, v1)] [(2, s0), (0, s1), (0, s2), (12, 0)] σ
set_option maxRecDepth 100000 in
theorem e_m_isBelow (d : Nat) (σ : ga_S) (a1 a2 : Int) : c_m_isBelow (d + 1) σ a1 a2 = m_isBelow_2 d σ a2 a1 :=
  ga_blk_eq am_G (am_run d) mt_m_isBelow 2 0 [(0, 12, 0), (1, 0, a1), (2, 0, a2)] [] σ
set_option maxRecDepth 100000 in
theorem e_m_isBelow_2 (d : Nat) (σ : ga_S) (v2 v3 : Int) : m_isBelow_2 d σ v2 v3 = if v3 < 0 then
    m_isBelow_21 d σ v2 v3
  else
    if v3 = v2 then
      m_isBelow_21 d σ v2 v3
    else
      ga_ck v3 16 (m_isBelow_2 d σ v2 (σ fM_above 0 v3)) :=
  ga_blk_eq am_G (am_run d) mt_m_isBelow 11 2 [(0, 12, 0), (2, 0, v2), (3, 0, v3)] [] σ
set_option maxRecDepth 100000 in
theorem e_m_isBelow_21 (d : Nat) (σ : ga_S) (v2 v3 : Int) : m_isBelow_21 d σ v2 v3 = if v3 = v2 then
    if v3 < 0 then
      some (0, σ)
    else
      some (1, σ)
  else
    some (0, σ) :=
  ga_blk_eq am_G (am_run d) mt_m_isBelow 8 21 [(2, 0, v2), (3, 0, v3)] [] σ
set_option maxRecDepth 100000 in
theorem e_m_has (d : Nat) (σ : ga_S) (a1 a2 : Int) : c_m_has (d + 1) σ a1 a2 = m_has_2 d σ a2 a1 :=
  ga_blk_eq am_G (am_run d) mt_m_has 2 0 [(0, 12, 0), (1, 0, a1), (2, 0, a2)] [] σ
set_option maxRecDepth 100000 in
theorem e_m_has_2 (d : Nat) (σ : ga_S) (v2 v3 : Int) : m_has_2 d σ v2 v3 = if v3 < 0 then
    some (0, σ)
  else
    ga_ck (w32 ((w32 (12 * v3)) + v2)) 192 (if (σ fM_kindHas 0 (w32 ((w32 (12 * v3)) + v2))) = 0 then
        ga_ck v3 16 (m_has_2 d σ v2 (σ fM_above 0 v3))
      else
        some (1, σ)) :=
  ga_blk_eq am_G (am_run d) mt_m_has 17 2 [(0, 12, 0), (2, 0, v2), (3, 0, v3)] [] σ
set_option maxRecDepth 100000 in
theorem e_m_propertyOf (d : Nat) (σ : ga_S) (a1 a2 : Int) : c_m_propertyOf (d + 1) σ a1 a2 = m_propertyOf_10 d (ga_up σ fM_matches 0 0 0) a1 a2 (-1) 0 :=
  ga_blk_eq am_G (am_run d) mt_m_propertyOf 7 0 [(0, 12, 0), (1, 0, a1), (2, 0, a2)] [] σ
set_option maxRecDepth 100000 in
theorem e_m_propertyOf_10 (d : Nat) (σ : ga_S) (v1 v2 v3 v4 : Int) : m_propertyOf_10 d σ v1 v2 v3 v4 = if v4 < (σ fM_properties 0 0) then
    if v1 < 0 then
      some (v3, σ)
    else
      ga_ck v4 12 (if (σ fM_propertyType 0 v4) = v2 then
          (c_m_has d σ v1 v4).bind fun q1 =>
            if q1.1 = 0 then
              m_propertyOf_68 d q1.2 v1 v2 v3 v4
            else
              if (q1.2 fM_matches 0 0) = 0 then
                m_propertyOf_57 d q1.2 v1 v2 v4 v4
              else
                m_propertyOf_57 d q1.2 v1 v2 v4 v3
        else
          m_propertyOf_68 d σ v1 v2 v3 v4)
  else
    some (v3, σ) :=
  ga_blk_eq am_G (am_run d) mt_m_propertyOf 22 10 [(0, 12, 0), (1, 0, v1), (2, 0, v2), (3, 0, v3), (4, 0, v4)] [] σ
set_option maxRecDepth 100000 in
theorem e_m_propertyOf_68 (d : Nat) (σ : ga_S) (v1 v2 v3 v4 : Int) : m_propertyOf_68 d σ v1 v2 v3 v4 = m_propertyOf_10 d σ v1 v2 v3 (w32 (v4 + 1)) :=
  ga_blk_eq am_G (am_run d) mt_m_propertyOf 2 68 [(0, 12, 0), (1, 0, v1), (2, 0, v2), (3, 0, v3), (4, 0, v4)] [] σ
set_option maxRecDepth 100000 in
theorem e_m_propertyOf_57 (d : Nat) (σ : ga_S) (v1 v2 v4 s0 : Int) : m_propertyOf_57 d σ v1 v2 v4 s0 = m_propertyOf_68 d (ga_up σ fM_matches 0 0 (w32 ((σ fM_matches 0 0) + 1))) v1 v2 s0 v4 :=
  ga_blk_eq am_G (am_run d) mt_m_propertyOf 7 57 [(0, 12, 0), (1, 0, v1), (2, 0, v2), (4, 0, v4)] [(0, s0)] σ
set_option maxRecDepth 100000 in
theorem e_m_odd (d : Nat) (σ : ga_S) : c_m_odd (d + 1) σ = if (σ fM_isBad 0 0) = 0 then
    some (0, (ga_up (ga_up σ fM_isBad 0 0 1) fM_badAt 0 0 (σ fM_at 0 0)))
  else
    some (0, σ) :=
  ga_blk_eq am_G (am_run d) mt_m_odd 11 0 [(0, 12, 0)] [] σ
set_option maxRecDepth 100000 in
theorem e_m_look (d : Nat) (σ : ga_S) : c_m_look (d + 1) σ = if (σ fM_isBad 0 0) = 0 then
    ga_ck (σ fM_at 0 0) 5002 (some ((σ fM_token 0 (σ fM_at 0 0)), σ))
  else
    some (1, σ) :=
  ga_blk_eq am_G (am_run d) mt_m_look 9 0 [(0, 12, 0)] [] σ
set_option maxRecDepth 100000 in
theorem e_m_isNext (d : Nat) (σ : ga_S) (a1 : Int) : c_m_isNext (d + 1) σ a1 = if (σ fM_isBad 0 0) = 0 then
    ga_ck (σ fM_at 0 0) 5002 (if (σ fM_token 0 (σ fM_at 0 0)) = a1 then
        some (1, σ)
      else
        some (0, σ))
  else
    some (0, σ) :=
  ga_blk_eq am_G (am_run d) mt_m_isNext 13 0 [(0, 12, 0), (1, 0, a1)] [] σ
set_option maxRecDepth 100000 in
theorem e_m_take (d : Nat) (σ : ga_S) (a1 : Int) : c_m_take (d + 1) σ a1 = (c_m_isNext d σ a1).bind fun q1 =>
    if q1.1 = 0 then
      (c_m_odd d q1.2).bind fun q2 =>
        some (0, q2.2)
    else
      some (0, (ga_up q1.2 fM_at 0 0 (w32 ((q1.2 fM_at 0 0) + 1)))) :=
  ga_blk_eq am_G (am_run d) mt_m_take 12 0 [(0, 12, 0), (1, 0, a1)] [] σ
set_option maxRecDepth 100000 in
theorem e_m_isArt (d : Nat) (σ : ga_S) (a0 : Int) : c_m_isArt (d + 1) σ a0 = if a0 < 100 then
    some (0, σ)
  else
    if 103 < a0 then
      some (0, σ)
    else
      some (1, σ) :=
  ga_blk_eq am_G (am_run d) mt_m_isArt 9 0 [(0, 0, a0)] [] σ
set_option maxRecDepth 100000 in
theorem e_m_run (d : Nat) (σ : ga_S) : c_m_run (d + 1) σ = (c_m_isNext d σ 3).bind fun q1 =>
    if q1.1 = 0 then
      (c_m_odd d q1.2).bind fun q2 =>
        some (0, q2.2)
    else
      ga_ck (q1.2 fM_runs 0 0) 2600 (m_run_27 d (ga_up q1.2 fM_runFrom 0 (q1.2 fM_runs 0 0) (q1.2 fM_at 0 0))) :=
  ga_blk_eq am_G (am_run d) mt_m_run 11 0 [(0, 12, 0)] [] σ
set_option maxRecDepth 100000 in
theorem e_m_run_27 (d : Nat) (σ : ga_S) : m_run_27 d σ = ga_ck (σ fM_at 0 0) 5002 (if (σ fM_token 0 (σ fM_at 0 0)) = 3 then
      m_run_27 d (ga_up σ fM_at 0 0 (w32 ((σ fM_at 0 0) + 1)))
    else
      ga_ck (σ fM_runs 0 0) 2600 (ga_ck (σ fM_runs 0 0) 2600 (some ((w32 ((w32 ((σ fM_runs 0 0) + 1)) - 1)), (ga_up (ga_up σ fM_runSize 0 (σ fM_runs 0 0) (w32 ((σ fM_at 0 0) - (σ fM_runFrom 0 (σ fM_runs 0 0))))) fM_runs 0 0 (w32 ((σ fM_runs 0 0) + 1))))))) :=
  ga_blk_eq am_G (am_run d) mt_m_run 31 27 [(0, 12, 0)] [] σ
set_option maxRecDepth 100000 in
theorem e_m_name0 (d : Nat) (σ : ga_S) : c_m_name0 (d + 1) σ = (c_m_look d σ).bind fun q1 =>
    (c_m_isArt d q1.2 q1.1).bind fun q2 =>
      if q2.1 = 0 then
        m_name0_20 d q2.2
      else
        m_name0_20 d (ga_up q2.2 fM_at 0 0 (w32 ((q2.2 fM_at 0 0) + 1))) :=
  ga_blk_eq am_G (am_run d) mt_m_name0 10 0 [(0, 12, 0)] [] σ
set_option maxRecDepth 100000 in
theorem e_m_name0_20 (d : Nat) (σ : ga_S) : m_name0_20 d σ = (c_m_run d σ).bind fun q3 =>
    some (q3.1, q3.2) :=
  ga_blk_eq am_G (am_run d) mt_m_name0 3 20 [(0, 12, 0)] [] σ
set_option maxRecDepth 100000 in
theorem e_m_art (d : Nat) (σ : ga_S) : c_m_art (d + 1) σ = (c_m_look d σ).bind fun q1 =>
    (c_m_isArt d q1.2 q1.1).bind fun q2 =>
      if q2.1 = 0 then
        (c_m_odd d q2.2).bind fun q3 =>
          some (0, q3.2)
      else
        some (0, (ga_up q2.2 fM_at 0 0 (w32 ((q2.2 fM_at 0 0) + 1)))) :=
  ga_blk_eq am_G (am_run d) mt_m_art 12 0 [(0, 12, 0)] [] σ
set_option maxRecDepth 100000 in
theorem e_m_isMore (d : Nat) (σ : ga_S) : c_m_isMore (d + 1) σ = (c_m_isNext d σ 44).bind fun q1 =>
    if q1.1 = 0 then
      (c_m_isNext d q1.2 116).bind fun q2 =>
        if q2.1 = 0 then
          some (0, q2.2)
        else
          some (1, (ga_up q2.2 fM_at 0 0 (w32 ((q2.2 fM_at 0 0) + 1))))
    else
      ga_ck (w32 ((q1.2 fM_at 0 0) + 1)) 5002 (if (q1.2 fM_token 0 (w32 ((q1.2 fM_at 0 0) + 1))) = 116 then
          m_isMore_43 d (ga_up q1.2 fM_at 0 0 (w32 ((q1.2 fM_at 0 0) + 1))) 1 (w32 ((q1.2 fM_at 0 0) + 1))
        else
          m_isMore_43 d (ga_up q1.2 fM_at 0 0 (w32 ((q1.2 fM_at 0 0) + 1))) 0 (w32 ((q1.2 fM_at 0 0) + 1))) :=
  ga_blk_eq am_G (am_run d) mt_m_isMore 22 0 [(0, 12, 0)] [] σ
set_option maxRecDepth 100000 in
theorem e_m_isMore_43 (d : Nat) (σ : ga_S) (s0 s1 : Int) : m_isMore_43 d σ s0 s1 = some (1, (ga_up σ fM_at 0 0 (w32 (s1 + s0)))) :=
  ga_blk_eq am_G (am_run d) mt_m_isMore 4 43 [] [(0, s0), (0, s1), (12, 0)] σ
set_option maxRecDepth 100000 in
theorem e_m_list (d : Nat) (σ : ga_S) (a1 : Int) : c_m_list (d + 1) σ a1 = m_list_10 d (ga_up σ fM_listFrom 0 0 (σ fM_runs 0 0)) a1 1 :=
  ga_blk_eq am_G (am_run d) mt_m_list 6 0 [(0, 12, 0), (1, 0, a1)] [] σ
set_option maxRecDepth 100000 in
theorem e_m_list_10 (d : Nat) (σ : ga_S) (v1 v2 : Int) : m_list_10 d σ v1 v2 = if v2 = 0 then
    m_list_46 d σ
  else
    if (σ fM_isBad 0 0) = 0 then
      if v1 = 0 then
        (c_m_run d σ).bind fun q1 =>
          m_list_38 d q1.2 v1
      else
        (c_m_name0 d σ).bind fun q2 =>
          m_list_38 d q2.2 v1
    else
      m_list_46 d σ :=
  ga_blk_eq am_G (am_run d) mt_m_list 11 10 [(0, 12, 0), (1, 0, v1), (2, 0, v2)] [] σ
set_option maxRecDepth 100000 in
theorem e_m_list_46 (d : Nat) (σ : ga_S) : m_list_46 d σ = some (0, (ga_up σ fM_listSize 0 0 (w32 ((σ fM_runs 0 0) - (σ fM_listFrom 0 0))))) :=
  ga_blk_eq am_G (am_run d) mt_m_list 8 46 [(0, 12, 0)] [] σ
set_option maxRecDepth 100000 in
theorem e_m_list_38 (d : Nat) (σ : ga_S) (v1 : Int) : m_list_38 d σ v1 = (c_m_isMore d σ).bind fun q3 =>
    m_list_10 d q3.2 v1 q3.1 :=
  ga_blk_eq am_G (am_run d) mt_m_list 4 38 [(0, 12, 0), (1, 0, v1)] [] σ
set_option maxRecDepth 100000 in
theorem e_m_placing (d : Nat) (σ : ga_S) : c_m_placing (d + 1) σ = (c_m_look d σ).bind fun q1 =>
    if q1.1 = 108 then
      m_placing_59 d q1.2 1
    else
      if q1.1 = 109 then
        m_placing_59 d q1.2 2
      else
        if q1.1 = 129 then
          m_placing_59 d q1.2 3
        else
          if q1.1 = 130 then
            m_placing_59 d q1.2 4
          else
            if q1.1 = 131 then
              m_placing_59 d q1.2 5
            else
              m_placing_59 d q1.2 0 :=
  ga_blk_eq am_G (am_run d) mt_m_placing 20 0 [(0, 12, 0)] [] σ
set_option maxRecDepth 100000 in
theorem e_m_placing_59 (d : Nat) (σ : ga_S) (s0 : Int) : m_placing_59 d σ s0 = if s0 = 0 then
    (c_m_odd d σ).bind fun q2 =>
      some (0, q2.2)
  else
    if 2 < s0 then
      if s0 = 3 then
        m_placing_98 d (ga_up σ fM_at 0 0 (w32 ((σ fM_at 0 0) + 1))) s0 107
      else
        m_placing_98 d (ga_up σ fM_at 0 0 (w32 ((σ fM_at 0 0) + 1))) s0 110
    else
      some (s0, (ga_up σ fM_at 0 0 (w32 ((σ fM_at 0 0) + 1)))) :=
  ga_blk_eq am_G (am_run d) mt_m_placing 18 59 [(0, 12, 0)] [(0, s0)] σ
set_option maxRecDepth 100000 in
theorem e_m_placing_98 (d : Nat) (σ : ga_S) (v2 s0 : Int) : m_placing_98 d σ v2 s0 = (c_m_take d σ s0).bind fun q3 =>
    some (v2, q3.2) :=
  ga_blk_eq am_G (am_run d) mt_m_placing 3 98 [(2, 0, v2)] [(0, s0), (12, 0)] σ
set_option maxRecDepth 100000 in
theorem e_m_what (d : Nat) (σ : ga_S) : c_m_what (d + 1) σ = (c_m_look d (ga_up σ fM_what 0 0 (σ fM_at 0 0))).bind fun q1 =>
    if q1.1 = 4 then
      m_what_23 d q1.2
    else
      if q1.1 = 5 then
        m_what_23 d q1.2
      else
        (c_m_run d q1.2).bind fun q2 =>
          some (0, q2.2) :=
  ga_blk_eq am_G (am_run d) mt_m_what 17 0 [(0, 12, 0)] [] σ
set_option maxRecDepth 100000 in
theorem e_m_what_23 (d : Nat) (σ : ga_S) : m_what_23 d σ = some (0, (ga_up σ fM_at 0 0 (w32 ((σ fM_at 0 0) + 1)))) :=
  ga_blk_eq am_G (am_run d) mt_m_what 8 23 [(0, 12, 0)] [] σ
set_option maxRecDepth 100000 in
theorem e_m_thing (d : Nat) (σ : ga_S) : c_m_thing (d + 1) σ = (c_m_isNext d (ga_up σ fM_thingAt 0 0 (σ fM_at 0 0)) 154).bind fun q1 =>
    if q1.1 = 0 then
      (c_m_isNext d q1.2 153).bind fun q2 =>
        if q2.1 = 0 then
          (c_m_isNext d q2.2 102).bind fun q3 =>
            if q3.1 = 0 then
              m_thing_108 d q3.2
            else
              ga_ck (w32 ((q3.2 fM_at 0 0) + 1)) 5002 (if (q3.2 fM_token 0 (w32 ((q3.2 fM_at 0 0) + 1))) = 153 then
                  m_thing_72 d q3.2
                else
                  m_thing_108 d q3.2)
        else
          m_thing_72 d q2.2
    else
      some (0, (ga_up (ga_up q1.2 fM_thingSort 0 0 0) fM_at 0 0 (w32 ((q1.2 fM_at 0 0) + 1)))) :=
  ga_blk_eq am_G (am_run d) mt_m_thing 25 0 [(0, 12, 0)] [] σ
set_option maxRecDepth 100000 in
theorem e_m_thing_72 (d : Nat) (σ : ga_S) : m_thing_72 d σ = ga_ck (σ fM_at 0 0) 5002 (if (σ fM_token 0 (σ fM_at 0 0)) = 102 then
      m_thing_101 d (ga_up σ fM_thingSort 0 0 1) 2 (σ fM_at 0 0)
    else
      m_thing_101 d (ga_up σ fM_thingSort 0 0 1) 1 (σ fM_at 0 0)) :=
  ga_blk_eq am_G (am_run d) mt_m_thing 15 72 [(0, 12, 0)] [] σ
set_option maxRecDepth 100000 in
theorem e_m_thing_108 (d : Nat) (σ : ga_S) : m_thing_108 d σ = (c_m_name0 d (ga_up σ fM_thingSort 0 0 2)).bind fun q4 =>
    if (q4.2 fM_isBad 0 0) = 0 then
      ga_ck q4.1 2600 (m_thing_145 d (ga_up q4.2 fM_thingRun 0 0 q4.1) (q4.2 fM_runFrom 0 q4.1))
    else
      m_thing_145 d (ga_up q4.2 fM_thingRun 0 0 q4.1) (q4.2 fM_at 0 0) :=
  ga_blk_eq am_G (am_run d) mt_m_thing 16 108 [(0, 12, 0)] [] σ
set_option maxRecDepth 100000 in
theorem e_m_thing_101 (d : Nat) (σ : ga_S) (s0 s1 : Int) : m_thing_101 d σ s0 s1 = some (0, (ga_up σ fM_at 0 0 (w32 (s1 + s0)))) :=
  ga_blk_eq am_G (am_run d) mt_m_thing 4 101 [] [(0, s0), (0, s1), (12, 0)] σ
set_option maxRecDepth 100000 in
theorem e_m_thing_145 (d : Nat) (σ : ga_S) (s0 : Int) : m_thing_145 d σ s0 = some (0, (ga_up σ fM_thingAt 0 0 s0)) :=
  ga_blk_eq am_G (am_run d) mt_m_thing 2 145 [] [(0, s0), (12, 0)] σ
set_option maxRecDepth 100000 in
theorem e_m_endsTest (d : Nat) (σ : ga_S) (a1 a2 : Int) : c_m_endsTest (d + 1) σ a1 a2 = if a1 = 46 then
    m_endsTest_33 d σ
  else
    if a1 = 59 then
      m_endsTest_33 d σ
    else
      if a1 = 1 then
        m_endsTest_33 d σ
      else
        if a2 = 0 then
          if a1 = 116 then
            m_endsTest_33 d σ
          else
            if a1 = 58 then
              m_endsTest_33 d σ
            else
              some (0, σ)
        else
          some (0, σ) :=
  ga_blk_eq am_G (am_run d) mt_m_endsTest 19 0 [(0, 12, 0), (1, 0, a1), (2, 0, a2)] [] σ
set_option maxRecDepth 100000 in
theorem e_m_endsTest_33 (d : Nat) (σ : ga_S) : m_endsTest_33 d σ = some (1, σ) :=
  ga_blk_eq am_G (am_run d) mt_m_endsTest 3 33 [] [] σ
set_option maxRecDepth 100000 in
theorem e_m_beginsOf (d : Nat) (σ : ga_S) (a1 : Int) : c_m_beginsOf (d + 1) σ a1 = ga_ck a1 5002 (if (σ fM_token 0 a1) = 102 then
      m_beginsOf_17 d σ a1 (w32 (a1 + 1))
    else
      some (0, σ)) :=
  ga_blk_eq am_G (am_run d) mt_m_beginsOf 12 0 [(0, 12, 0), (1, 0, a1)] [] σ
set_option maxRecDepth 100000 in
theorem e_m_beginsOf_17 (d : Nat) (σ : ga_S) (v1 v2 : Int) : m_beginsOf_17 d σ v1 v2 = ga_ck v2 5002 (if (σ fM_token 0 v2) = 3 then
      m_beginsOf_17 d σ v1 (w32 (v2 + 1))
    else
      if (w32 (v1 + 1)) < v2 then
        ga_ck v2 5002 (if (σ fM_token 0 v2) = 107 then
            some (1, σ)
          else
            some (0, σ))
      else
        some (0, σ)) :=
  ga_blk_eq am_G (am_run d) mt_m_beginsOf 20 17 [(0, 12, 0), (1, 0, v1), (2, 0, v2)] [] σ
set_option maxRecDepth 100000 in
theorem e_m_property0 (d : Nat) (σ : ga_S) : c_m_property0 (d + 1) σ = (c_m_take d σ 102).bind fun q1 =>
    (c_m_run d q1.2).bind fun q2 =>
      ga_ck (q1.2 fM_tCount 0 0) 1700 ((c_m_take d (ga_up q2.2 fM_tRun 0 (q1.2 fM_tCount 0 0) q2.1) 107).bind fun q3 =>
          some (0, q3.2)) :=
  ga_blk_eq am_G (am_run d) mt_m_property0 14 0 [(0, 12, 0)] [] σ
set_option maxRecDepth 100000 in
theorem e_m_thingOfTest (d : Nat) (σ : ga_S) : c_m_thingOfTest (d + 1) σ = (c_m_thing d σ).bind fun q1 =>
    ga_ck (q1.2 fM_tCount 0 0) 1700 (ga_ck (q1.2 fM_tCount 0 0) 1700 (some (0, (ga_up (ga_up q1.2 fM_tThing 0 (q1.2 fM_tCount 0 0) (w32 ((w32 ((q1.2 fM_thingSort 0 0) * 10000)) + (q1.2 fM_thingAt 0 0)))) fM_tThingRun 0 (q1.2 fM_tCount 0 0) (q1.2 fM_thingRun 0 0))))) :=
  ga_blk_eq am_G (am_run d) mt_m_thingOfTest 22 0 [(0, 12, 0)] [] σ
set_option maxRecDepth 100000 in
theorem e_m_test (d : Nat) (σ : ga_S) (a1 : Int) : c_m_test (d + 1) σ a1 = m_test_13 d σ a1 (σ fM_at 0 0) 0 (σ fM_at 0 0) :=
  ga_blk_eq am_G (am_run d) mt_m_test 8 0 [(0, 12, 0), (1, 0, a1)] [] σ
set_option maxRecDepth 100000 in
theorem e_m_test_13 (d : Nat) (σ : ga_S) (v1 v2 v3 v4 : Int) : m_test_13 d σ v1 v2 v3 v4 = ga_ck v4 5002 ((c_m_endsTest d σ (σ fM_token 0 v4) v1).bind fun q1 =>
      if q1.1 = 0 then
        if v3 = 0 then
          ga_ck v4 5002 (if (q1.2 fM_token 0 v4) = 104 then
              m_test_44 d q1.2 v1 v2 v4
            else
              m_test_49 d q1.2 v1 v2 v4 0)
        else
          m_test_44 d q1.2 v1 v2 v4
      else
        ga_ck (q1.2 fM_tCount 0 0) 1700 (ga_ck (q1.2 fM_tCount 0 0) 1700 (if v3 = 0 then
              ga_ck (q1.2 fM_tCount 0 0) 1700 ((c_m_look d (ga_up (ga_up (ga_up q1.2 fM_tFirst 0 (q1.2 fM_tCount 0 0) v2) fM_tNot 0 (q1.2 fM_tCount 0 0) 0) fM_tForm 0 (q1.2 fM_tCount 0 0) 5)).bind fun q10 =>
                  m_test_96 d q10.2 v1 v2 q10.1)
            else
              (c_m_beginsOf d (ga_up (ga_up q1.2 fM_tFirst 0 (q1.2 fM_tCount 0 0) v2) fM_tNot 0 (q1.2 fM_tCount 0 0) 0) (q1.2 fM_at 0 0)).bind fun q2 =>
                if q2.1 = 0 then
                  (c_m_thingOfTest d q2.2).bind fun q3 =>
                    (c_m_take d q3.2 104).bind fun q4 =>
                      (c_m_isNext d q4.2 106).bind fun q5 =>
                        ga_ck (q4.2 fM_tCount 0 0) 1700 (ga_01 q5.1 (ga_ck (q5.2 fM_tCount 0 0) 1700 (if ((ga_up q5.2 fM_tNot 0 (q4.2 fM_tCount 0 0) q5.1) fM_tNot 0 (q5.2 fM_tCount 0 0)) = 0 then
                                m_test_240 d (ga_up q5.2 fM_tNot 0 (q4.2 fM_tCount 0 0) q5.1) v1 0 (q5.2 fM_at 0 0)
                              else
                                m_test_240 d (ga_up q5.2 fM_tNot 0 (q4.2 fM_tCount 0 0) q5.1) v1 1 (q5.2 fM_at 0 0))))
                else
                  (c_m_property0 d q2.2).bind fun q6 =>
                    (c_m_thingOfTest d q6.2).bind fun q7 =>
                      (c_m_take d q7.2 104).bind fun q8 =>
                        (c_m_testedWhat d q8.2 v1).bind fun q9 =>
                          m_test_351 d q9.2 v1))) :=
  ga_blk_eq am_G (am_run d) mt_m_test 51 13 [(0, 12, 0), (1, 0, v1), (2, 0, v2), (3, 0, v3), (4, 0, v4)] [] σ
set_option maxRecDepth 100000 in
theorem e_m_test_240 (d : Nat) (σ : ga_S) (v1 s0 s1 : Int) : m_test_240 d σ v1 s0 s1 = (c_m_isNext d (ga_up σ fM_at 0 0 (w32 (s1 + s0))) 3).bind fun q11 =>
    if q11.1 = 0 then
      if v1 = 0 then
        ga_ck (q11.2 fM_tCount 0 0) 1700 ((c_m_placing d (ga_up q11.2 fM_tForm 0 (q11.2 fM_tCount 0 0) 4)).bind fun q12 =>
            ga_ck (q11.2 fM_tCount 0 0) 1700 ((c_m_thing d (ga_up q12.2 fM_tWay 0 (q11.2 fM_tCount 0 0) q12.1)).bind fun q13 =>
                ga_ck (q13.2 fM_tCount 0 0) 1700 (ga_ck (q13.2 fM_tCount 0 0) 1700 (m_test_351 d (ga_up (ga_up q13.2 fM_tOther 0 (q13.2 fM_tCount 0 0) (w32 ((w32 ((q13.2 fM_thingSort 0 0) * 10000)) + (q13.2 fM_thingAt 0 0)))) fM_tOtherRun 0 (q13.2 fM_tCount 0 0) (q13.2 fM_thingRun 0 0)) v1))))
      else
        (c_m_odd d q11.2).bind fun q14 =>
          m_test_351 d q14.2 v1
    else
      ga_ck (q11.2 fM_tCount 0 0) 1700 ((c_m_run d (ga_up q11.2 fM_tForm 0 (q11.2 fM_tCount 0 0) 3)).bind fun q15 =>
          ga_ck (q11.2 fM_tCount 0 0) 1700 (m_test_351 d (ga_up q15.2 fM_tRun 0 (q11.2 fM_tCount 0 0) q15.1) v1)) :=
  ga_blk_eq am_G (am_run d) mt_m_test 42 240 [(0, 12, 0), (1, 0, v1)] [(0, s0), (0, s1), (12, 0)] σ
set_option maxRecDepth 100000 in
theorem e_m_test_351 (d : Nat) (σ : ga_S) (v1 : Int) : m_test_351 d σ v1 = ga_ck (σ fM_tCount 0 0) 1700 (if (σ fM_isBad 0 0) = 0 then
      ga_ck (σ fM_at 0 0) 5002 ((c_m_endsTest d (ga_up σ fM_tEnd 0 (σ fM_tCount 0 0) (σ fM_at 0 0)) (σ fM_token 0 (σ fM_at 0 0)) v1).bind fun q16 =>
          if q16.1 = 0 then
            (c_m_odd d q16.2).bind fun q17 =>
              m_test_392 d q17.2
          else
            m_test_392 d q16.2)
    else
      m_test_392 d (ga_up σ fM_tEnd 0 (σ fM_tCount 0 0) (σ fM_at 0 0))) :=
  ga_blk_eq am_G (am_run d) mt_m_test 21 351 [(0, 12, 0), (1, 0, v1)] [] σ
set_option maxRecDepth 100000 in
theorem e_m_test_96 (d : Nat) (σ : ga_S) (v1 v2 v4 : Int) : m_test_96 d σ v1 v2 v4 = if v4 = 3 then
    m_test_126 d σ v1 v2
  else
    (c_m_isArt d σ v4).bind fun q18 =>
      if q18.1 = 0 then
        if v4 = 154 then
          m_test_126 d q18.2 v1 v2
        else
          if v4 = 153 then
            m_test_126 d q18.2 v1 v2
          else
            if (q18.2 fM_at 0 0) = v2 then
              (c_m_odd d q18.2).bind fun q19 =>
                m_test_157 d q19.2 v1
            else
              m_test_157 d q18.2 v1
      else
        m_test_126 d q18.2 v1 v2 :=
  ga_blk_eq am_G (am_run d) mt_m_test 18 96 [(0, 12, 0), (1, 0, v1), (2, 0, v2), (4, 0, v4)] [] σ
set_option maxRecDepth 100000 in
theorem e_m_test_44 (d : Nat) (σ : ga_S) (v1 v2 v4 : Int) : m_test_44 d σ v1 v2 v4 = m_test_49 d σ v1 v2 v4 1 :=
  ga_blk_eq am_G (am_run d) mt_m_test 2 44 [(0, 12, 0), (1, 0, v1), (2, 0, v2), (4, 0, v4)] [] σ
set_option maxRecDepth 100000 in
theorem e_m_test_49 (d : Nat) (σ : ga_S) (v1 v2 v4 s0 : Int) : m_test_49 d σ v1 v2 v4 s0 = m_test_13 d σ v1 v2 s0 (w32 (v4 + 1)) :=
  ga_blk_eq am_G (am_run d) mt_m_test 3 49 [(0, 12, 0), (1, 0, v1), (2, 0, v2), (4, 0, v4)] [(0, s0)] σ
set_option maxRecDepth 100000 in
theorem e_m_test_392 (d : Nat) (σ : ga_S) : m_test_392 d σ = some (0, (ga_up σ fM_tCount 0 0 (w32 ((σ fM_tCount 0 0) + 1)))) :=
  ga_blk_eq am_G (am_run d) mt_m_test 7 392 [(0, 12, 0)] [] σ
set_option maxRecDepth 100000 in
theorem e_m_test_126 (d : Nat) (σ : ga_S) (v1 v2 : Int) : m_test_126 d σ v1 v2 = (c_m_look d (ga_up σ fM_at 0 0 (w32 ((σ fM_at 0 0) + 1)))).bind fun q20 =>
    m_test_96 d q20.2 v1 v2 q20.1 :=
  ga_blk_eq am_G (am_run d) mt_m_test 10 126 [(0, 12, 0), (1, 0, v1), (2, 0, v2)] [] σ
set_option maxRecDepth 100000 in
theorem e_m_test_157 (d : Nat) (σ : ga_S) (v1 : Int) : m_test_157 d σ v1 = m_test_351 d σ v1 :=
  ga_blk_eq am_G (am_run d) mt_m_test 1 157 [(0, 12, 0), (1, 0, v1)] [] σ
set_option maxRecDepth 100000 in
theorem e_m_testedWhat (d : Nat) (σ : ga_S) (a1 : Int) : c_m_testedWhat (d + 1) σ a1 = if a1 = 0 then
    (c_m_isNext d σ 151).bind fun q1 =>
      if q1.1 = 0 then
        (c_m_isNext d q1.2 152).bind fun q2 =>
          if q2.1 = 0 then
            m_testedWhat_84 d q2.2 a1
          else
            m_testedWhat_24 d q2.2
      else
        m_testedWhat_24 d q1.2
  else
    m_testedWhat_84 d σ a1 :=
  ga_blk_eq am_G (am_run d) mt_m_testedWhat 10 0 [(0, 12, 0), (1, 0, a1)] [] σ
set_option maxRecDepth 100000 in
theorem e_m_testedWhat_84 (d : Nat) (σ : ga_S) (v1 : Int) : m_testedWhat_84 d σ v1 = ga_ck (σ fM_tCount 0 0) 1700 (if v1 = 0 then
      (c_m_isNext d (ga_up σ fM_tForm 0 (σ fM_tCount 0 0) 0) 106).bind fun q3 =>
        if q3.1 = 0 then
          m_testedWhat_119 d q3.2 (σ fM_tCount 0 0)
        else
          m_testedWhat_120 d q3.2 1 (σ fM_tCount 0 0)
    else
      m_testedWhat_119 d (ga_up σ fM_tForm 0 (σ fM_tCount 0 0) 0) (σ fM_tCount 0 0)) :=
  ga_blk_eq am_G (am_run d) mt_m_testedWhat 18 84 [(0, 12, 0), (1, 0, v1)] [] σ
set_option maxRecDepth 100000 in
theorem e_m_testedWhat_24 (d : Nat) (σ : ga_S) : m_testedWhat_24 d σ = (c_m_isNext d σ 151).bind fun q4 =>
    if q4.1 = 0 then
      m_testedWhat_47 d q4.2 2 (σ fM_tCount 0 0)
    else
      m_testedWhat_47 d q4.2 1 (σ fM_tCount 0 0) :=
  ga_blk_eq am_G (am_run d) mt_m_testedWhat 10 24 [(0, 12, 0)] [] σ
set_option maxRecDepth 100000 in
theorem e_m_testedWhat_119 (d : Nat) (σ : ga_S) (s0 : Int) : m_testedWhat_119 d σ s0 = m_testedWhat_120 d σ 0 s0 :=
  ga_blk_eq am_G (am_run d) mt_m_testedWhat 1 119 [(0, 12, 0)] [(0, s0), (139, 0)] σ
set_option maxRecDepth 100000 in
theorem e_m_testedWhat_120 (d : Nat) (σ : ga_S) (s0 s1 : Int) : m_testedWhat_120 d σ s0 s1 = ga_ck s1 1700 (ga_01 s0 (ga_ck (σ fM_tCount 0 0) 1700 (if ((ga_up σ fM_tNot 0 s1 s0) fM_tNot 0 (σ fM_tCount 0 0)) = 0 then
          m_testedWhat_143 d (ga_up σ fM_tNot 0 s1 s0) 0 (σ fM_at 0 0)
        else
          m_testedWhat_143 d (ga_up σ fM_tNot 0 s1 s0) 1 (σ fM_at 0 0)))) :=
  ga_blk_eq am_G (am_run d) mt_m_testedWhat 12 120 [(0, 12, 0)] [(0, s0), (0, s1), (139, 0)] σ
set_option maxRecDepth 100000 in
theorem e_m_testedWhat_47 (d : Nat) (σ : ga_S) (s0 s1 : Int) : m_testedWhat_47 d σ s0 s1 = ga_ck s1 1700 ((c_m_take d (ga_up (ga_up σ fM_tForm 0 s1 s0) fM_at 0 0 (w32 ((σ fM_at 0 0) + 1))) 150).bind fun q5 =>
      ga_ck (q5.2 fM_tCount 0 0) 1700 ((c_m_take d (ga_up q5.2 fM_tWhat 0 (q5.2 fM_tCount 0 0) (q5.2 fM_at 0 0)) 4).bind fun q6 =>
          some (0, q6.2))) :=
  ga_blk_eq am_G (am_run d) mt_m_testedWhat 21 47 [(0, 12, 0)] [(0, s0), (0, s1), (138, 0)] σ
set_option maxRecDepth 100000 in
theorem e_m_testedWhat_143 (d : Nat) (σ : ga_S) (s0 s1 : Int) : m_testedWhat_143 d σ s0 s1 = (c_m_what d (ga_up σ fM_at 0 0 (w32 (s1 + s0)))).bind fun q7 =>
    ga_ck (q7.2 fM_tCount 0 0) 1700 (ga_ck (q7.2 fM_tCount 0 0) 1700 (some (0, (ga_up (ga_up q7.2 fM_tWhat 0 (q7.2 fM_tCount 0 0) (q7.2 fM_what 0 0)) fM_tOtherRun 0 (q7.2 fM_tCount 0 0) (w32 ((q7.2 fM_runs 0 0) - 1)))))) :=
  ga_blk_eq am_G (am_run d) mt_m_testedWhat 21 143 [(0, 12, 0)] [(0, s0), (0, s1), (12, 0)] σ
set_option maxRecDepth 100000 in
theorem e_m_tests (d : Nat) (σ : ga_S) : c_m_tests (d + 1) σ = (c_m_test d σ 0).bind fun q1 =>
    m_tests_5 d q1.2 :=
  ga_blk_eq am_G (am_run d) mt_m_tests 3 0 [(0, 12, 0)] [] σ
set_option maxRecDepth 100000 in
theorem e_m_tests_5 (d : Nat) (σ : ga_S) : m_tests_5 d σ = (c_m_isNext d σ 116).bind fun q2 =>
    if q2.1 = 0 then
      some (0, (ga_up q2.2 fM_tShown 0 0 (q2.2 fM_tCount 0 0)))
    else
      (c_m_test d (ga_up q2.2 fM_at 0 0 (w32 ((q2.2 fM_at 0 0) + 1))) 0).bind fun q3 =>
        m_tests_5 d q3.2 :=
  ga_blk_eq am_G (am_run d) mt_m_tests 14 5 [(0, 12, 0)] [] σ
set_option maxRecDepth 100000 in
theorem e_m_phrase (d : Nat) (σ : ga_S) : c_m_phrase (d + 1) σ = ga_ck (σ fM_pCount 0 0) 1700 (ga_ck (σ fM_pCount 0 0) 1700 (ga_ck (σ fM_tCount 0 0) 1700 ((c_m_look d (ga_up (ga_up (ga_up σ fM_pFirst 0 (σ fM_pCount 0 0) (σ fM_at 0 0)) fM_pTest 0 (σ fM_pCount 0 0) (σ fM_tCount 0 0)) fM_tFirst 0 (σ fM_tCount 0 0) (σ fM_at 0 0))).bind fun q1 =>
          if q1.1 = 143 then
            ga_ck (σ fM_pCount 0 0) 1700 (ga_ck (q1.2 fM_tCount 0 0) 1700 ((c_m_take d (ga_up (ga_up (ga_up q1.2 fM_at 0 0 (w32 ((q1.2 fM_at 0 0) + 1))) fM_pWhat 0 (σ fM_pCount 0 0) 0) fM_tWhat 0 (q1.2 fM_tCount 0 0) (w32 ((q1.2 fM_at 0 0) + 1))) 5).bind fun q12 =>
                  m_phrase_409 d (ga_up q12.2 fM_tCount 0 0 (w32 ((q12.2 fM_tCount 0 0) + 1)))))
          else
            if q1.1 = 144 then
              ga_ck (σ fM_pCount 0 0) 1700 ((c_m_test d (ga_up (ga_up q1.2 fM_at 0 0 (w32 ((q1.2 fM_at 0 0) + 1))) fM_pWhat 0 (σ fM_pCount 0 0) 1) 1).bind fun q11 =>
                  m_phrase_409 d q11.2)
            else
              if q1.1 = 145 then
                ga_ck (σ fM_pCount 0 0) 1700 ((c_m_thingOfTest d (ga_up (ga_up q1.2 fM_at 0 0 (w32 ((q1.2 fM_at 0 0) + 1))) fM_pWhat 0 (σ fM_pCount 0 0) 2)).bind fun q8 =>
                    (c_m_take d q8.2 111).bind fun q9 =>
                      (c_m_thing d q9.2).bind fun q10 =>
                        ga_ck (q10.2 fM_tCount 0 0) 1700 (ga_ck (q10.2 fM_tCount 0 0) 1700 (m_phrase_409 d (ga_up (ga_up (ga_up q10.2 fM_tOther 0 (q10.2 fM_tCount 0 0) (w32 ((w32 ((q10.2 fM_thingSort 0 0) * 10000)) + (q10.2 fM_thingAt 0 0)))) fM_tOtherRun 0 (q10.2 fM_tCount 0 0) (q10.2 fM_thingRun 0 0)) fM_tCount 0 0 (w32 ((q10.2 fM_tCount 0 0) + 1))))))
              else
                if q1.1 = 146 then
                  if q1.1 = 146 then
                    m_phrase_235 d (ga_up q1.2 fM_at 0 0 (w32 ((q1.2 fM_at 0 0) + 1))) 3 (σ fM_pCount 0 0)
                  else
                    m_phrase_235 d (ga_up q1.2 fM_at 0 0 (w32 ((q1.2 fM_at 0 0) + 1))) 4 (σ fM_pCount 0 0)
                else
                  if q1.1 = 147 then
                    if q1.1 = 146 then
                      m_phrase_235 d (ga_up q1.2 fM_at 0 0 (w32 ((q1.2 fM_at 0 0) + 1))) 3 (σ fM_pCount 0 0)
                    else
                      m_phrase_235 d (ga_up q1.2 fM_at 0 0 (w32 ((q1.2 fM_at 0 0) + 1))) 4 (σ fM_pCount 0 0)
                  else
                    if q1.1 = 148 then
                      ga_ck (σ fM_pCount 0 0) 1700 (m_phrase_409 d (ga_up (ga_up (ga_up q1.2 fM_at 0 0 (w32 ((q1.2 fM_at 0 0) + 1))) fM_pWhat 0 (σ fM_pCount 0 0) 6) fM_tCount 0 0 (w32 ((q1.2 fM_tCount 0 0) + 1))))
                    else
                      if q1.1 = 149 then
                        ga_ck (σ fM_pCount 0 0) 1700 ((c_m_run d (ga_up (ga_up q1.2 fM_at 0 0 (w32 ((q1.2 fM_at 0 0) + 1))) fM_pWhat 0 (σ fM_pCount 0 0) 5)).bind fun q3 =>
                            ga_ck (q1.2 fM_tCount 0 0) 1700 ((c_m_isNext d (ga_up q3.2 fM_tRun 0 (q1.2 fM_tCount 0 0) q3.1) 154).bind fun q4 =>
                                if q4.1 = 0 then
                                  (c_m_isNext d q4.2 153).bind fun q5 =>
                                    if q5.1 = 0 then
                                      (c_m_look d q5.2).bind fun q6 =>
                                        (c_m_isArt d q6.2 q6.1).bind fun q7 =>
                                          if q7.1 = 0 then
                                            m_phrase_344 d q7.2 0 (q3.2 fM_tCount 0 0)
                                          else
                                            m_phrase_339 d q7.2 (q3.2 fM_tCount 0 0)
                                    else
                                      m_phrase_339 d q5.2 (q3.2 fM_tCount 0 0)
                                else
                                  m_phrase_339 d q4.2 (q3.2 fM_tCount 0 0)))
                      else
                        (c_m_odd d (ga_up (ga_up q1.2 fM_at 0 0 (w32 ((q1.2 fM_at 0 0) + 1))) fM_at 0 0 (w32 ((w32 ((q1.2 fM_at 0 0) + 1)) - 1)))).bind fun q2 =>
                          m_phrase_409 d q2.2))) :=
  ga_blk_eq am_G (am_run d) mt_m_phrase 71 0 [(0, 12, 0)] [] σ
set_option maxRecDepth 100000 in
theorem e_m_phrase_409 (d : Nat) (σ : ga_S) : m_phrase_409 d σ = if (σ fM_isBad 0 0) = 0 then
    ga_ck (σ fM_at 0 0) 5002 (if (σ fM_token 0 (σ fM_at 0 0)) = 59 then
        some (0, (ga_up σ fM_pCount 0 0 (w32 ((σ fM_pCount 0 0) + 1))))
      else
        ga_ck (σ fM_at 0 0) 5002 (if (σ fM_token 0 (σ fM_at 0 0)) = 46 then
            some (0, (ga_up σ fM_pCount 0 0 (w32 ((σ fM_pCount 0 0) + 1))))
          else
            (c_m_odd d (ga_up σ fM_pCount 0 0 (w32 ((σ fM_pCount 0 0) + 1)))).bind fun q13 =>
              some (0, q13.2)))
  else
    some (0, (ga_up σ fM_pCount 0 0 (w32 ((σ fM_pCount 0 0) + 1)))) :=
  ga_blk_eq am_G (am_run d) mt_m_phrase 26 409 [(0, 12, 0)] [] σ
set_option maxRecDepth 100000 in
theorem e_m_phrase_339 (d : Nat) (σ : ga_S) (s0 : Int) : m_phrase_339 d σ s0 = m_phrase_344 d σ 1 s0 :=
  ga_blk_eq am_G (am_run d) mt_m_phrase 2 339 [(0, 12, 0)] [(0, s0), (139, 0)] σ
set_option maxRecDepth 100000 in
theorem e_m_phrase_344 (d : Nat) (σ : ga_S) (s0 s1 : Int) : m_phrase_344 d σ s0 s1 = ga_ck s1 1700 (ga_01 s0 (ga_ck (σ fM_tCount 0 0) 1700 (if ((ga_up σ fM_tNot 0 s1 s0) fM_tNot 0 (σ fM_tCount 0 0)) = 0 then
          m_phrase_361 d (ga_up σ fM_tNot 0 s1 s0)
        else
          (c_m_thingOfTest d (ga_up σ fM_tNot 0 s1 s0)).bind fun q14 =>
            m_phrase_361 d q14.2))) :=
  ga_blk_eq am_G (am_run d) mt_m_phrase 9 344 [(0, 12, 0)] [(0, s0), (0, s1), (139, 0)] σ
set_option maxRecDepth 100000 in
theorem e_m_phrase_235 (d : Nat) (σ : ga_S) (s0 s1 : Int) : m_phrase_235 d σ s0 s1 = ga_ck s1 1700 ((c_m_property0 d (ga_up σ fM_pWhat 0 s1 s0)).bind fun q15 =>
      (c_m_thingOfTest d q15.2).bind fun q16 =>
        (c_m_take d q16.2 110).bind fun q17 =>
          ga_ck (q17.2 fM_tCount 0 0) 1700 ((c_m_take d (ga_up q17.2 fM_tWhat 0 (q17.2 fM_tCount 0 0) (q17.2 fM_at 0 0)) 4).bind fun q18 =>
              m_phrase_409 d (ga_up q18.2 fM_tCount 0 0 (w32 ((q18.2 fM_tCount 0 0) + 1))))) :=
  ga_blk_eq am_G (am_run d) mt_m_phrase 25 235 [(0, 12, 0)] [(0, s0), (0, s1), (149, 0)] σ
set_option maxRecDepth 100000 in
theorem e_m_phrase_361 (d : Nat) (σ : ga_S) : m_phrase_361 d σ = m_phrase_409 d (ga_up σ fM_tCount 0 0 (w32 ((σ fM_tCount 0 0) + 1))) :=
  ga_blk_eq am_G (am_run d) mt_m_phrase 7 361 [(0, 12, 0)] [] σ
set_option maxRecDepth 100000 in
theorem e_m_phrases (d : Nat) (σ : ga_S) : c_m_phrases (d + 1) σ = (c_m_phrase d σ).bind fun q1 =>
    m_phrases_4 d q1.2 :=
  ga_blk_eq am_G (am_run d) mt_m_phrases 2 0 [(0, 12, 0)] [] σ
set_option maxRecDepth 100000 in
theorem e_m_phrases_4 (d : Nat) (σ : ga_S) : m_phrases_4 d σ = (c_m_isNext d σ 59).bind fun q2 =>
    if q2.1 = 0 then
      some (0, q2.2)
    else
      (c_m_phrase d (ga_up q2.2 fM_at 0 0 (w32 ((q2.2 fM_at 0 0) + 1)))).bind fun q3 =>
        m_phrases_4 d q3.2 :=
  ga_blk_eq am_G (am_run d) mt_m_phrases 13 4 [(0, 12, 0)] [] σ
set_option maxRecDepth 100000 in
theorem e_m_rule1 (d : Nat) (σ : ga_S) (a1 : Int) : c_m_rule1 (d + 1) σ a1 = if a1 = 5 then
    (c_m_take d (ga_up (ga_up σ fM_sort 0 0 a1) fM_at 0 0 (w32 ((σ fM_at 0 0) + 1))) 107).bind fun q1 =>
      m_rule1_26 d q1.2 a1
  else
    m_rule1_26 d (ga_up (ga_up σ fM_sort 0 0 a1) fM_at 0 0 (w32 ((σ fM_at 0 0) + 1))) a1 :=
  ga_blk_eq am_G (am_run d) mt_m_rule1 15 0 [(0, 12, 0), (1, 0, a1)] [] σ
set_option maxRecDepth 100000 in
theorem e_m_rule1_26 (d : Nat) (σ : ga_S) (v1 : Int) : m_rule1_26 d σ v1 = if v1 = 6 then
    (c_m_take d σ 142).bind fun q6 =>
      m_rule1_83 d q6.2
  else
    (c_m_run d σ).bind fun q2 =>
      (c_m_look d (ga_up (ga_up q2.2 fM_actingRun 0 0 q2.1) fM_actingOther 0 0 (-1))).bind fun q3 =>
        (c_m_isArt d q3.2 q3.1).bind fun q4 =>
          if q4.1 = 0 then
            m_rule1_83 d q4.2
          else
            (c_m_run d (ga_up q4.2 fM_at 0 0 (w32 ((q4.2 fM_at 0 0) + 1)))).bind fun q5 =>
              m_rule1_83 d (ga_up q5.2 fM_actingOther 0 0 q5.1) :=
  ga_blk_eq am_G (am_run d) mt_m_rule1 24 26 [(0, 12, 0), (1, 0, v1)] [] σ
set_option maxRecDepth 100000 in
theorem e_m_rule1_83 (d : Nat) (σ : ga_S) : m_rule1_83 d σ = (c_m_isNext d σ 137).bind fun q7 =>
    if q7.1 = 0 then
      m_rule1_107 d q7.2
    else
      (c_m_tests d (ga_up q7.2 fM_at 0 0 (w32 ((q7.2 fM_at 0 0) + 1)))).bind fun q8 =>
        m_rule1_107 d q8.2 :=
  ga_blk_eq am_G (am_run d) mt_m_rule1 12 83 [(0, 12, 0)] [] σ
set_option maxRecDepth 100000 in
theorem e_m_rule1_107 (d : Nat) (σ : ga_S) : m_rule1_107 d σ = (c_m_take d σ 58).bind fun q9 =>
    (c_m_phrases d q9.2).bind fun q10 =>
      some (0, q10.2) :=
  ga_blk_eq am_G (am_run d) mt_m_rule1 6 107 [(0, 12, 0)] [] σ
set_option maxRecDepth 100000 in
theorem e_m_partOne (d : Nat) (σ : ga_S) : c_m_partOne (d + 1) σ = (c_m_take d (ga_up σ fM_at 0 0 (w32 ((σ fM_at 0 0) + 1))) 5).bind fun q1 =>
    (c_m_take d (ga_up q1.2 fM_textAt 0 0 (w32 ((q1.2 fM_at 0 0) - 1))) 134).bind fun q2 =>
      (c_m_run d q2.2).bind fun q3 =>
        some (0, q3.2) :=
  ga_blk_eq am_G (am_run d) mt_m_partOne 22 0 [(0, 12, 0)] [] σ
set_option maxRecDepth 100000 in
theorem e_m_partTwo (d : Nat) (σ : ga_S) : c_m_partTwo (d + 1) σ = (c_m_take d (ga_up σ fM_at 0 0 (w32 ((σ fM_at 0 0) + 1))) 58).bind fun q1 =>
    (c_m_art d q1.2).bind fun q2 =>
      (c_m_run d q2.2).bind fun q3 =>
        (c_m_take d q3.2 104).bind fun q4 =>
          (c_m_run d q4.2).bind fun q5 =>
            (c_m_take d q5.2 136).bind fun q6 =>
              (c_m_tests d q6.2).bind fun q7 =>
                some (0, q7.2) :=
  ga_blk_eq am_G (am_run d) mt_m_partTwo 26 0 [(0, 12, 0)] [] σ
set_option maxRecDepth 100000 in
theorem e_m_be (d : Nat) (σ : ga_S) : c_m_be (d + 1) σ = (c_m_isNext d σ 104).bind fun q1 =>
    if q1.1 = 0 then
      (c_m_isNext d q1.2 105).bind fun q2 =>
        if q2.1 = 0 then
          (c_m_odd d q2.2).bind fun q3 =>
            some (0, q3.2)
        else
          m_be_18 d q2.2
    else
      m_be_18 d q1.2 :=
  ga_blk_eq am_G (am_run d) mt_m_be 11 0 [(0, 12, 0)] [] σ
set_option maxRecDepth 100000 in
theorem e_m_be_18 (d : Nat) (σ : ga_S) : m_be_18 d σ = (c_m_isNext d σ 105).bind fun q4 =>
    ga_01 q4.1 (some (0, (ga_up (ga_up q4.2 fM_isAre 0 0 q4.1) fM_at 0 0 (w32 ((q4.2 fM_at 0 0) + 1))))) :=
  ga_blk_eq am_G (am_run d) mt_m_be 13 18 [(0, 12, 0)] [] σ
set_option maxRecDepth 100000 in
theorem e_m_rest (d : Nat) (σ : ga_S) : c_m_rest (d + 1) σ = (c_m_look d σ).bind fun q1 =>
    if q1.1 = 100 then
      ga_ck (w32 ((q1.2 fM_at 0 0) + 1)) 5002 (if (q1.2 fM_token 0 (w32 ((q1.2 fM_at 0 0) + 1))) = 118 then
          (c_m_isNext d (ga_up (ga_up (ga_up (ga_up q1.2 fM_placeWay 0 0 0) fM_sort 0 0 10) fM_at 0 0 (w32 ((q1.2 fM_at 0 0) + 2))) fM_what 0 0 (-1)) 107).bind fun q2 =>
            if q2.1 = 0 then
              some (0, q2.2)
            else
              (c_m_isNext d (ga_up q2.2 fM_at 0 0 (w32 ((q2.2 fM_at 0 0) + 1))) 120).bind fun q3 =>
                if q3.1 = 0 then
                  (c_m_name0 d q3.2).bind fun q4 =>
                    some (0, (ga_up q4.2 fM_what 0 0 q4.1))
                else
                  some (0, (ga_up (ga_up q3.2 fM_what 0 0 (-2)) fM_at 0 0 (w32 ((q3.2 fM_at 0 0) + 1))))
        else
          m_rest_111 d (ga_up q1.2 fM_placeWay 0 0 0) q1.1)
    else
      m_rest_111 d (ga_up q1.2 fM_placeWay 0 0 0) q1.1 :=
  ga_blk_eq am_G (am_run d) mt_m_rest 55 0 [(0, 12, 0)] [] σ
set_option maxRecDepth 100000 in
theorem e_m_rest_111 (d : Nat) (σ : ga_S) (v1 : Int) : m_rest_111 d σ v1 = if v1 = 101 then
    ga_ck (w32 ((σ fM_at 0 0) + 1)) 5002 (if (σ fM_token 0 (w32 ((σ fM_at 0 0) + 1))) = 127 then
        (c_m_isNext d (ga_up (ga_up (ga_up σ fM_sort 0 0 11) fM_at 0 0 (w32 ((σ fM_at 0 0) + 2))) fM_what 0 0 (-1)) 128).bind fun q5 =>
          if q5.1 = 0 then
            some (0, q5.2)
          else
            (c_m_take d (ga_up q5.2 fM_at 0 0 (w32 ((q5.2 fM_at 0 0) + 1))) 111).bind fun q6 =>
              (c_m_take d q6.2 122).bind fun q7 =>
                (c_m_run d q7.2).bind fun q8 =>
                  some (0, (ga_up q8.2 fM_what 0 0 q8.1))
      else
        m_rest_197 d σ v1)
  else
    m_rest_197 d σ v1 :=
  ga_blk_eq am_G (am_run d) mt_m_rest 46 111 [(0, 12, 0), (1, 0, v1)] [] σ
set_option maxRecDepth 100000 in
theorem e_m_rest_197 (d : Nat) (σ : ga_S) (v1 : Int) : m_rest_197 d σ v1 = (c_m_isArt d σ v1).bind fun q9 =>
    if q9.1 = 0 then
      if v1 = 106 then
        m_rest_276 d q9.2 v1
      else
        if v1 = 132 then
          m_rest_276 d q9.2 v1
        else
          if v1 = 3 then
            (c_m_run d q9.2).bind fun q12 =>
              (c_m_isNext d (ga_up (ga_up q12.2 fM_what 0 0 q12.1) fM_sort 0 0 15) 107).bind fun q13 =>
                if q13.1 = 0 then
                  (c_m_isNext d q13.2 116).bind fun q14 =>
                    if q14.1 = 0 then
                      (c_m_isNext d q14.2 44).bind fun q15 =>
                        if q15.1 = 0 then
                          some (0, q15.2)
                        else
                          m_rest_407 d q15.2
                    else
                      m_rest_407 d q14.2
                else
                  (c_m_name0 d (ga_up (ga_up q13.2 fM_sort 0 0 14) fM_at 0 0 (w32 ((q13.2 fM_at 0 0) + 1)))).bind fun q16 =>
                    some (0, (ga_up q16.2 fM_placeRun 0 0 q16.1))
          else
            (c_m_placing d (ga_up q9.2 fM_sort 0 0 13)).bind fun q10 =>
              (c_m_name0 d (ga_up q10.2 fM_placeWay 0 0 q10.1)).bind fun q11 =>
                some (0, (ga_up q11.2 fM_placeRun 0 0 q11.1))
    else
      (c_m_run d (ga_up (ga_up q9.2 fM_sort 0 0 12) fM_at 0 0 (w32 ((q9.2 fM_at 0 0) + 1)))).bind fun q17 =>
        (c_m_isNext d (ga_up q17.2 fM_what 0 0 q17.1) 46).bind fun q18 =>
          if q18.1 = 0 then
            if (q18.2 fM_isBad 0 0) = 0 then
              (c_m_placing d q18.2).bind fun q19 =>
                (c_m_name0 d (ga_up q19.2 fM_placeWay 0 0 q19.1)).bind fun q20 =>
                  some (0, (ga_up q20.2 fM_placeRun 0 0 q20.1))
            else
              some (0, q18.2)
          else
            some (0, q18.2) :=
  ga_blk_eq am_G (am_run d) mt_m_rest 38 197 [(0, 12, 0), (1, 0, v1)] [] σ
set_option maxRecDepth 100000 in
theorem e_m_rest_276 (d : Nat) (σ : ga_S) (v1 : Int) : m_rest_276 d σ v1 = if v1 = 106 then
    m_rest_294 d (ga_up σ fM_sort 0 0 15) v1 1
  else
    m_rest_294 d (ga_up σ fM_sort 0 0 15) v1 0 :=
  ga_blk_eq am_G (am_run d) mt_m_rest 9 276 [(0, 12, 0), (1, 0, v1)] [] σ
set_option maxRecDepth 100000 in
theorem e_m_rest_407 (d : Nat) (σ : ga_S) : m_rest_407 d σ = m_rest_413 d (ga_up σ fM_sort 0 0 16) :=
  ga_blk_eq am_G (am_run d) mt_m_rest 3 407 [(0, 12, 0)] [] σ
set_option maxRecDepth 100000 in
theorem e_m_rest_294 (d : Nat) (σ : ga_S) (v1 s0 : Int) : m_rest_294 d σ v1 s0 = ga_01 s0 (if v1 = 132 then
      m_rest_310 d (ga_up σ fM_isNot 0 0 s0) 1
    else
      m_rest_310 d (ga_up σ fM_isNot 0 0 s0) 0) :=
  ga_blk_eq am_G (am_run d) mt_m_rest 7 294 [(0, 12, 0), (1, 0, v1)] [(0, s0), (12, 0)] σ
set_option maxRecDepth 100000 in
theorem e_m_rest_413 (d : Nat) (σ : ga_S) : m_rest_413 d σ = if (σ fM_isBad 0 0) = 0 then
    (c_m_isMore d σ).bind fun q21 =>
      if q21.1 = 0 then
        some (0, q21.2)
      else
        (c_m_run d q21.2).bind fun q22 =>
          m_rest_413 d q22.2
  else
    some (0, σ) :=
  ga_blk_eq am_G (am_run d) mt_m_rest 10 413 [(0, 12, 0)] [] σ
set_option maxRecDepth 100000 in
theorem e_m_rest_310 (d : Nat) (σ : ga_S) (s0 : Int) : m_rest_310 d σ s0 = ga_01 s0 ((c_m_run d (ga_up (ga_up σ fM_isUsually 0 0 s0) fM_at 0 0 (w32 ((σ fM_at 0 0) + 1)))).bind fun q23 =>
      some (0, (ga_up q23.2 fM_what 0 0 q23.1))) :=
  ga_blk_eq am_G (am_run d) mt_m_rest 13 310 [(0, 12, 0)] [(0, s0), (12, 0)] σ
set_option maxRecDepth 100000 in
theorem e_m_oneOrVarious (d : Nat) (σ : ga_S) : c_m_oneOrVarious (d + 1) σ = (c_m_isNext d σ 122).bind fun q1 =>
    if q1.1 = 0 then
      (c_m_isNext d q1.2 123).bind fun q2 =>
        if q2.1 = 0 then
          (c_m_odd d q2.2).bind fun q3 =>
            m_oneOrVarious_24 d q3.2 q1.1
        else
          m_oneOrVarious_24 d q2.2 q1.1
    else
      m_oneOrVarious_24 d q1.2 q1.1 :=
  ga_blk_eq am_G (am_run d) mt_m_oneOrVarious 12 0 [(0, 12, 0)] [] σ
set_option maxRecDepth 100000 in
theorem e_m_oneOrVarious_24 (d : Nat) (σ : ga_S) (v1 : Int) : m_oneOrVarious_24 d σ v1 = ga_01 v1 (some (v1, (ga_up σ fM_at 0 0 (w32 ((σ fM_at 0 0) + 1))))) :=
  ga_blk_eq am_G (am_run d) mt_m_oneOrVarious 8 24 [(0, 12, 0), (1, 0, v1)] [] σ
set_option maxRecDepth 100000 in
theorem e_m_others (d : Nat) (σ : ga_S) (a1 : Int) : c_m_others (d + 1) σ a1 = if a1 = 112 then
    (c_m_name0 d (ga_up σ fM_sort 0 0 17)).bind fun q15 =>
      (c_m_take d q15.2 112).bind fun q16 =>
        (c_m_art d q16.2).bind fun q17 =>
          (c_m_run d q17.2).bind fun q18 =>
            (c_m_take d q18.2 117).bind fun q19 =>
              (c_m_run d q19.2).bind fun q20 =>
                some (0, q20.2)
  else
    if a1 = 113 then
      (c_m_name0 d (ga_up σ fM_sort 0 0 18)).bind fun q9 =>
        (c_m_take d q9.2 113).bind fun q10 =>
          (c_m_take d q10.2 114).bind fun q11 =>
            (c_m_run d q11.2).bind fun q12 =>
              (c_m_take d q12.2 115).bind fun q13 =>
                (c_m_run d q13.2).bind fun q14 =>
                  some (0, q14.2)
    else
      if a1 = 121 then
        (c_m_name0 d (ga_up σ fM_sort 0 0 19)).bind fun q2 =>
          (c_m_take d q2.2 121).bind fun q3 =>
            (c_m_oneOrVarious d q3.2).bind fun q4 =>
              ga_01 q4.1 ((c_m_run d (ga_up q4.2 fM_firstIsOne 0 0 q4.1)).bind fun q5 =>
                  (c_m_take d q5.2 111).bind fun q6 =>
                    (c_m_oneOrVarious d q6.2).bind fun q7 =>
                      ga_01 q7.1 ((c_m_run d (ga_up q7.2 fM_secondIsOne 0 0 q7.1)).bind fun q8 =>
                          some (0, q8.2)))
      else
        (c_m_look d (ga_up σ fM_sort 0 0 20)).bind fun q1 =>
          m_others_168 d q1.2 (σ fM_at 0 0) q1.1 :=
  ga_blk_eq am_G (am_run d) mt_m_others 37 0 [(0, 12, 0), (1, 0, a1)] [] σ
set_option maxRecDepth 100000 in
theorem e_m_others_168 (d : Nat) (σ : ga_S) (v2 v3 : Int) : m_others_168 d σ v2 v3 = if v3 = 3 then
    m_others_192 d σ v2
  else
    (c_m_isArt d σ v3).bind fun q21 =>
      if q21.1 = 0 then
        if v3 = 116 then
          m_others_192 d q21.2 v2
        else
          if v3 = 44 then
            m_others_192 d q21.2 v2
          else
            if (q21.2 fM_at 0 0) = v2 then
              (c_m_odd d q21.2).bind fun q22 =>
                some (0, q22.2)
            else
              some (0, q21.2)
      else
        m_others_192 d q21.2 v2 :=
  ga_blk_eq am_G (am_run d) mt_m_others 19 168 [(0, 12, 0), (2, 0, v2), (3, 0, v3)] [] σ
set_option maxRecDepth 100000 in
theorem e_m_others_192 (d : Nat) (σ : ga_S) (v2 : Int) : m_others_192 d σ v2 = (c_m_look d (ga_up σ fM_at 0 0 (w32 ((σ fM_at 0 0) + 1)))).bind fun q23 =>
    m_others_168 d q23.2 v2 q23.1 :=
  ga_blk_eq am_G (am_run d) mt_m_others 10 192 [(0, 12, 0), (2, 0, v2)] [] σ
set_option maxRecDepth 100000 in
theorem e_m_common (d : Nat) (σ : ga_S) : c_m_common (d + 1) σ = m_common_12 d σ 0 (σ fM_at 0 0) :=
  ga_blk_eq am_G (am_run d) mt_m_common 8 0 [(0, 12, 0)] [] σ
set_option maxRecDepth 100000 in
theorem e_m_common_12 (d : Nat) (σ : ga_S) (v1 v3 : Int) : m_common_12 d σ v1 v3 = ga_ck v3 5002 (if (σ fM_token 0 v3) = 46 then
      m_common_95 d σ v1
    else
      ga_ck v3 5002 (if (σ fM_token 0 v3) = 1 then
          m_common_95 d σ v1
        else
          if v1 = 0 then
            ga_ck v3 5002 (if (σ fM_token 0 v3) = 104 then
                m_common_80 d σ v3 (σ fM_token 0 v3)
              else
                if (σ fM_token 0 v3) = 105 then
                  m_common_80 d σ v3 (σ fM_token 0 v3)
                else
                  if (σ fM_token 0 v3) = 112 then
                    m_common_80 d σ v3 (σ fM_token 0 v3)
                  else
                    if (σ fM_token 0 v3) = 113 then
                      m_common_80 d σ v3 (σ fM_token 0 v3)
                    else
                      if (σ fM_token 0 v3) = 121 then
                        m_common_80 d σ v3 (σ fM_token 0 v3)
                      else
                        m_common_86 d σ v3 0)
          else
            m_common_95 d σ v1)) :=
  ga_blk_eq am_G (am_run d) mt_m_common 35 12 [(0, 12, 0), (1, 0, v1), (3, 0, v3)] [] σ
set_option maxRecDepth 100000 in
theorem e_m_common_95 (d : Nat) (σ : ga_S) (v1 : Int) : m_common_95 d σ v1 = if v1 = 104 then
    m_common_115 d σ
  else
    if v1 = 105 then
      m_common_115 d σ
    else
      (c_m_others d σ v1).bind fun q1 =>
        some (0, q1.2) :=
  ga_blk_eq am_G (am_run d) mt_m_common 11 95 [(0, 12, 0), (1, 0, v1)] [] σ
set_option maxRecDepth 100000 in
theorem e_m_common_80 (d : Nat) (σ : ga_S) (v3 v4 : Int) : m_common_80 d σ v3 v4 = m_common_86 d σ v3 v4 :=
  ga_blk_eq am_G (am_run d) mt_m_common 2 80 [(0, 12, 0), (3, 0, v3), (4, 0, v4)] [] σ
set_option maxRecDepth 100000 in
theorem e_m_common_86 (d : Nat) (σ : ga_S) (v3 s0 : Int) : m_common_86 d σ v3 s0 = m_common_12 d σ s0 (w32 (v3 + 1)) :=
  ga_blk_eq am_G (am_run d) mt_m_common 5 86 [(0, 12, 0), (3, 0, v3)] [(0, s0)] σ
set_option maxRecDepth 100000 in
theorem e_m_common_115 (d : Nat) (σ : ga_S) : m_common_115 d σ = (c_m_beginsOf d σ (σ fM_at 0 0)).bind fun q2 =>
    if q2.1 = 0 then
      (c_m_list d q2.2 1).bind fun q3 =>
        (c_m_be d q3.2).bind fun q4 =>
          if (q4.2 fM_isBad 0 0) = 0 then
            (c_m_rest d q4.2).bind fun q5 =>
              some (0, q5.2)
          else
            some (0, q4.2)
    else
      (c_m_run d (ga_up (ga_up q2.2 fM_sort 0 0 9) fM_at 0 0 (w32 ((q2.2 fM_at 0 0) + 1)))).bind fun q6 =>
        (c_m_take d q6.2 107).bind fun q7 =>
          (c_m_name0 d q7.2).bind fun q8 =>
            (c_m_be d q8.2).bind fun q9 =>
              (c_m_what d q9.2).bind fun q10 =>
                some (0, q10.2) :=
  ga_blk_eq am_G (am_run d) mt_m_common 29 115 [(0, 12, 0)] [] σ
set_option maxRecDepth 100000 in
theorem e_m_sentence (d : Nat) (σ : ga_S) : c_m_sentence (d + 1) σ = ga_ck (σ fM_at 0 0) 5002 (if (σ fM_token 0 (σ fM_at 0 0)) = 5 then
      ga_ck (w32 ((σ fM_at 0 0) + 1)) 5002 (if (σ fM_token 0 (w32 ((σ fM_at 0 0) + 1))) = 46 then
          m_sentence_97 d (ga_up (ga_up (ga_up (ga_up (ga_up (ga_up (ga_up (ga_up (ga_up (ga_up σ fM_isBad 0 0 0) fM_runs 0 0 0) fM_tCount 0 0 0) fM_tShown 0 0 0) fM_pCount 0 0 0) fM_isNot 0 0 0) fM_isUsually 0 0 0) fM_sort 0 0 0) fM_textAt 0 0 (σ fM_at 0 0)) fM_at 0 0 (w32 ((σ fM_at 0 0) + 1))) 1 (w32 ((σ fM_at 0 0) + 1))
        else
          m_sentence_97 d (ga_up (ga_up (ga_up (ga_up (ga_up (ga_up (ga_up (ga_up (ga_up (ga_up σ fM_isBad 0 0 0) fM_runs 0 0 0) fM_tCount 0 0 0) fM_tShown 0 0 0) fM_pCount 0 0 0) fM_isNot 0 0 0) fM_isUsually 0 0 0) fM_sort 0 0 0) fM_textAt 0 0 (σ fM_at 0 0)) fM_at 0 0 (w32 ((σ fM_at 0 0) + 1))) 0 (w32 ((σ fM_at 0 0) + 1)))
    else
      if (σ fM_token 0 (σ fM_at 0 0)) = 133 then
        (c_m_partOne d (ga_up (ga_up (ga_up (ga_up (ga_up (ga_up (ga_up (ga_up σ fM_isBad 0 0 0) fM_runs 0 0 0) fM_tCount 0 0 0) fM_tShown 0 0 0) fM_pCount 0 0 0) fM_isNot 0 0 0) fM_isUsually 0 0 0) fM_sort 0 0 1)).bind fun q8 =>
          m_sentence_350 d q8.2
      else
        if (σ fM_token 0 (σ fM_at 0 0)) = 135 then
          (c_m_partTwo d (ga_up (ga_up (ga_up (ga_up (ga_up (ga_up (ga_up (ga_up σ fM_isBad 0 0 0) fM_runs 0 0 0) fM_tCount 0 0 0) fM_tShown 0 0 0) fM_pCount 0 0 0) fM_isNot 0 0 0) fM_isUsually 0 0 0) fM_sort 0 0 2)).bind fun q7 =>
            m_sentence_350 d q7.2
        else
          if (σ fM_token 0 (σ fM_at 0 0)) = 138 then
            m_sentence_168 d (ga_up (ga_up (ga_up (ga_up (ga_up (ga_up (ga_up σ fM_isBad 0 0 0) fM_runs 0 0 0) fM_tCount 0 0 0) fM_tShown 0 0 0) fM_pCount 0 0 0) fM_isNot 0 0 0) fM_isUsually 0 0 0) (σ fM_token 0 (σ fM_at 0 0))
          else
            if (σ fM_token 0 (σ fM_at 0 0)) = 140 then
              m_sentence_168 d (ga_up (ga_up (ga_up (ga_up (ga_up (ga_up (ga_up σ fM_isBad 0 0 0) fM_runs 0 0 0) fM_tCount 0 0 0) fM_tShown 0 0 0) fM_pCount 0 0 0) fM_isNot 0 0 0) fM_isUsually 0 0 0) (σ fM_token 0 (σ fM_at 0 0))
            else
              if (σ fM_token 0 (σ fM_at 0 0)) = 139 then
                m_sentence_168 d (ga_up (ga_up (ga_up (ga_up (ga_up (ga_up (ga_up σ fM_isBad 0 0 0) fM_runs 0 0 0) fM_tCount 0 0 0) fM_tShown 0 0 0) fM_pCount 0 0 0) fM_isNot 0 0 0) fM_isUsually 0 0 0) (σ fM_token 0 (σ fM_at 0 0))
              else
                if (σ fM_token 0 (σ fM_at 0 0)) = 141 then
                  m_sentence_168 d (ga_up (ga_up (ga_up (ga_up (ga_up (ga_up (ga_up σ fM_isBad 0 0 0) fM_runs 0 0 0) fM_tCount 0 0 0) fM_tShown 0 0 0) fM_pCount 0 0 0) fM_isNot 0 0 0) fM_isUsually 0 0 0) (σ fM_token 0 (σ fM_at 0 0))
                else
                  if (σ fM_token 0 (σ fM_at 0 0)) = 102 then
                    ga_ck (w32 ((σ fM_at 0 0) + 1)) 5002 (if (σ fM_token 0 (w32 ((σ fM_at 0 0) + 1))) = 125 then
                        (c_m_take d (ga_up (ga_up (ga_up (ga_up (ga_up (ga_up (ga_up (ga_up (ga_up σ fM_isBad 0 0 0) fM_runs 0 0 0) fM_tCount 0 0 0) fM_tShown 0 0 0) fM_pCount 0 0 0) fM_isNot 0 0 0) fM_isUsually 0 0 0) fM_sort 0 0 7) fM_at 0 0 (w32 ((σ fM_at 0 0) + 2))) 111).bind fun q1 =>
                          (c_m_run d q1.2).bind fun q2 =>
                            (c_m_take d q2.2 124).bind fun q3 =>
                              (c_m_take d q3.2 102).bind fun q4 =>
                                (c_m_run d q4.2).bind fun q5 =>
                                  (c_m_take d q5.2 126).bind fun q6 =>
                                    m_sentence_350 d q6.2
                      else
                        m_sentence_285 d (ga_up (ga_up (ga_up (ga_up (ga_up (ga_up (ga_up σ fM_isBad 0 0 0) fM_runs 0 0 0) fM_tCount 0 0 0) fM_tShown 0 0 0) fM_pCount 0 0 0) fM_isNot 0 0 0) fM_isUsually 0 0 0) (σ fM_token 0 (σ fM_at 0 0)))
                  else
                    m_sentence_285 d (ga_up (ga_up (ga_up (ga_up (ga_up (ga_up (ga_up σ fM_isBad 0 0 0) fM_runs 0 0 0) fM_tCount 0 0 0) fM_tShown 0 0 0) fM_pCount 0 0 0) fM_isNot 0 0 0) fM_isUsually 0 0 0) (σ fM_token 0 (σ fM_at 0 0))) :=
  ga_blk_eq am_G (am_run d) mt_m_sentence 88 0 [(0, 12, 0)] [] σ
set_option maxRecDepth 100000 in
theorem e_m_sentence_168 (d : Nat) (σ : ga_S) (v1 : Int) : m_sentence_168 d σ v1 = if v1 = 138 then
    m_sentence_204 d σ 3
  else
    if v1 = 140 then
      m_sentence_204 d σ 4
    else
      if v1 = 139 then
        m_sentence_204 d σ 5
      else
        m_sentence_204 d σ 6 :=
  ga_blk_eq am_G (am_run d) mt_m_sentence 12 168 [(0, 12, 0), (1, 0, v1)] [] σ
set_option maxRecDepth 100000 in
theorem e_m_sentence_285 (d : Nat) (σ : ga_S) (v1 : Int) : m_sentence_285 d σ v1 = if v1 = 102 then
    ga_ck (w32 ((σ fM_at 0 0) + 1)) 5002 (if (σ fM_token 0 (w32 ((σ fM_at 0 0) + 1))) = 119 then
        (c_m_take d (ga_up (ga_up σ fM_sort 0 0 8) fM_at 0 0 (w32 ((σ fM_at 0 0) + 2))) 107).bind fun q9 =>
          (c_m_name0 d q9.2).bind fun q10 =>
            (c_m_be d q10.2).bind fun q11 =>
              (c_m_run d q11.2).bind fun q12 =>
                m_sentence_350 d q12.2
      else
        m_sentence_346 d σ)
  else
    m_sentence_346 d σ :=
  ga_blk_eq am_G (am_run d) mt_m_sentence 33 285 [(0, 12, 0), (1, 0, v1)] [] σ
set_option maxRecDepth 100000 in
theorem e_m_sentence_350 (d : Nat) (σ : ga_S) : m_sentence_350 d σ = (c_m_take d σ 46).bind fun q13 =>
    some (0, q13.2) :=
  ga_blk_eq am_G (am_run d) mt_m_sentence 4 350 [(0, 12, 0)] [] σ
set_option maxRecDepth 100000 in
theorem e_m_sentence_97 (d : Nat) (σ : ga_S) (s0 s1 : Int) : m_sentence_97 d σ s0 s1 = some (0, (ga_up σ fM_at 0 0 (w32 (s1 + s0)))) :=
  ga_blk_eq am_G (am_run d) mt_m_sentence 3 97 [] [(0, s0), (0, s1), (12, 0)] σ
set_option maxRecDepth 100000 in
theorem e_m_sentence_204 (d : Nat) (σ : ga_S) (s0 : Int) : m_sentence_204 d σ s0 = (c_m_rule1 d σ s0).bind fun q14 =>
    m_sentence_350 d q14.2 :=
  ga_blk_eq am_G (am_run d) mt_m_sentence 2 204 [(0, 12, 0)] [(0, s0), (12, 0)] σ
set_option maxRecDepth 100000 in
theorem e_m_sentence_346 (d : Nat) (σ : ga_S) : m_sentence_346 d σ = (c_m_common d σ).bind fun q15 =>
    m_sentence_350 d q15.2 :=
  ga_blk_eq am_G (am_run d) mt_m_sentence 2 346 [(0, 12, 0)] [] σ
set_option maxRecDepth 100000 in
theorem e_m_rank (d : Nat) (σ : ga_S) (a0 : Int) : c_m_rank (d + 1) σ a0 = if a0 = 9 then
    some (0, σ)
  else
    if a0 = 3 then
      some (1, σ)
    else
      if a0 = 4 then
        some (2, σ)
      else
        if a0 = 7 then
          some (3, σ)
        else
          some (4, σ) :=
  ga_blk_eq am_G (am_run d) mt_m_rank 15 0 [(0, 0, a0)] [] σ
set_option maxRecDepth 100000 in
theorem e_m_note (d : Nat) (σ : ga_S) (a1 a2 : Int) : c_m_note (d + 1) σ a1 a2 = ga_ck a2 5002 (if (σ fM_bestFault 0 0) = 0 then
      m_note_41 d σ a1 (σ fM_place 0 a2)
    else
      if (σ fM_place 0 a2) < (σ fM_bestPlace 0 0) then
        m_note_41 d σ a1 (σ fM_place 0 a2)
      else
        if (σ fM_place 0 a2) = (σ fM_bestPlace 0 0) then
          (c_m_rank d σ a1).bind fun q1 =>
            if q1.1 < (q1.2 fM_bestRank 0 0) then
              m_note_41 d q1.2 a1 (σ fM_place 0 a2)
            else
              some (0, q1.2)
        else
          some (0, σ)) :=
  ga_blk_eq am_G (am_run d) mt_m_note 22 0 [(0, 12, 0), (1, 0, a1), (2, 0, a2)] [] σ
set_option maxRecDepth 100000 in
theorem e_m_note_41 (d : Nat) (σ : ga_S) (v1 v3 : Int) : m_note_41 d σ v1 v3 = (c_m_rank d (ga_up (ga_up σ fM_bestFault 0 0 v1) fM_bestPlace 0 0 v3) v1).bind fun q2 =>
    some (0, (ga_up q2.2 fM_bestRank 0 0 q2.1)) :=
  ga_blk_eq am_G (am_run d) mt_m_note 11 41 [(0, 12, 0), (1, 0, v1), (3, 0, v3)] [] σ
set_option maxRecDepth 100000 in
theorem e_m_need (d : Nat) (σ : ga_S) (a1 a2 a3 : Int) : c_m_need (d + 1) σ a1 a2 a3 = if a1 = 0 then
    (c_m_note d σ a2 a3).bind fun q1 =>
      some (0, q1.2)
  else
    some (0, σ) :=
  ga_blk_eq am_G (am_run d) mt_m_need 7 0 [(0, 12, 0), (1, 0, a1), (2, 0, a2), (3, 0, a3)] [] σ
set_option maxRecDepth 100000 in
theorem e_m_isAlike (d : Nat) (σ : ga_S) (a1 a2 : Int) : c_m_isAlike (d + 1) σ a1 a2 = ga_ck a1 2600 (ga_ck a2 2600 (if (σ fM_runSize 0 a1) = (σ fM_runSize 0 a2) then
        m_isAlike_20 d σ a1 a2 1
      else
        m_isAlike_20 d σ a1 a2 0)) :=
  ga_blk_eq am_G (am_run d) mt_m_isAlike 11 0 [(0, 12, 0), (1, 0, a1), (2, 0, a2)] [] σ
set_option maxRecDepth 100000 in
theorem e_m_isAlike_20 (d : Nat) (σ : ga_S) (v1 v2 s0 : Int) : m_isAlike_20 d σ v1 v2 s0 = m_isAlike_24 d σ v1 v2 s0 0 :=
  ga_blk_eq am_G (am_run d) mt_m_isAlike 3 20 [(0, 12, 0), (1, 0, v1), (2, 0, v2)] [(0, s0)] σ
set_option maxRecDepth 100000 in
theorem e_m_isAlike_24 (d : Nat) (σ : ga_S) (v1 v2 v3 v4 : Int) : m_isAlike_24 d σ v1 v2 v3 v4 = ga_ck v1 2600 (if v4 < (σ fM_runSize 0 v1) then
      if v3 = 0 then
        ga_01 v3 (some (v3, σ))
      else
        ga_ck v1 2600 (ga_ck (w32 ((σ fM_runFrom 0 v1) + v4)) 5002 (ga_ck v2 2600 (ga_ck (w32 ((σ fM_runFrom 0 v2) + v4)) 5002 (if (ga_lcmp (σ fM_word 0 (w32 ((σ fM_runFrom 0 v1) + v4))) (σ fM_word 0 (w32 ((σ fM_runFrom 0 v2) + v4)))) = 0 then
                  m_isAlike_76 d σ v1 v2 v4 1
                else
                  m_isAlike_76 d σ v1 v2 v4 0))))
    else
      ga_01 v3 (some (v3, σ))) :=
  ga_blk_eq am_G (am_run d) mt_m_isAlike 30 24 [(0, 12, 0), (1, 0, v1), (2, 0, v2), (3, 0, v3), (4, 0, v4)] [] σ
set_option maxRecDepth 100000 in
theorem e_m_isAlike_76 (d : Nat) (σ : ga_S) (v1 v2 v4 s0 : Int) : m_isAlike_76 d σ v1 v2 v4 s0 = m_isAlike_24 d σ v1 v2 s0 (w32 (v4 + 1)) :=
  ga_blk_eq am_G (am_run d) mt_m_isAlike 3 76 [(0, 12, 0), (1, 0, v1), (2, 0, v2), (4, 0, v4)] [(0, s0)] σ
set_option maxRecDepth 100000 in
theorem e_m_isNew (d : Nat) (σ : ga_S) (a1 : Int) : c_m_isNew (d + 1) σ a1 = ga_ck a1 2600 (if 3 < (σ fM_runSize 0 a1) then
      m_isNew_34 d σ a1
    else
      ga_ck a1 2600 (ga_ck a1 2600 ((c_m_mean d σ (σ fM_runFrom 0 a1) (σ fM_runSize 0 a1)).bind fun q1 =>
            if q1.1 = (-1) then
              m_isNew_35 d q1.2 a1 1
            else
              m_isNew_34 d q1.2 a1))) :=
  ga_blk_eq am_G (am_run d) mt_m_isNew 20 0 [(0, 12, 0), (1, 0, a1)] [] σ
set_option maxRecDepth 100000 in
theorem e_m_isNew_34 (d : Nat) (σ : ga_S) (v1 : Int) : m_isNew_34 d σ v1 = m_isNew_35 d σ v1 0 :=
  ga_blk_eq am_G (am_run d) mt_m_isNew 1 34 [(0, 12, 0), (1, 0, v1)] [] σ
set_option maxRecDepth 100000 in
theorem e_m_isNew_35 (d : Nat) (σ : ga_S) (v1 s0 : Int) : m_isNew_35 d σ v1 s0 = m_isNew_38 d σ v1 s0 0 :=
  ga_blk_eq am_G (am_run d) mt_m_isNew 3 35 [(0, 12, 0), (1, 0, v1)] [(0, s0)] σ
set_option maxRecDepth 100000 in
theorem e_m_isNew_38 (d : Nat) (σ : ga_S) (v1 v2 v3 : Int) : m_isNew_38 d σ v1 v2 v3 = if v3 < (σ fM_news 0 0) then
    if v2 = 0 then
      ga_01 v2 (some (v2, σ))
    else
      ga_ck v3 2600 ((c_m_isAlike d σ v1 (σ fM_newRun 0 v3)).bind fun q2 =>
          if q2.1 = 0 then
            m_isNew_69 d q2.2 v1 v3 1
          else
            m_isNew_69 d q2.2 v1 v3 0)
  else
    ga_01 v2 (some (v2, σ)) :=
  ga_blk_eq am_G (am_run d) mt_m_isNew 16 38 [(0, 12, 0), (1, 0, v1), (2, 0, v2), (3, 0, v3)] [] σ
set_option maxRecDepth 100000 in
theorem e_m_isNew_69 (d : Nat) (σ : ga_S) (v1 v3 s0 : Int) : m_isNew_69 d σ v1 v3 s0 = m_isNew_38 d σ v1 s0 (w32 (v3 + 1)) :=
  ga_blk_eq am_G (am_run d) mt_m_isNew 3 69 [(0, 12, 0), (1, 0, v1), (3, 0, v3)] [(0, s0)] σ
set_option maxRecDepth 100000 in
theorem e_m_mustBeNew (d : Nat) (σ : ga_S) (a1 a2 a3 : Int) : c_m_mustBeNew (d + 1) σ a1 a2 a3 = (c_m_isNew d σ a1).bind fun q1 =>
    if q1.1 = 0 then
      ga_ck a1 2600 ((c_m_note d q1.2 3 (q1.2 fM_runFrom 0 a1)).bind fun q2 =>
          some (0, q2.2))
    else
      if a2 < a3 then
        m_mustBeNew_19 d q1.2 a1 1
      else
        m_mustBeNew_19 d q1.2 a1 0 :=
  ga_blk_eq am_G (am_run d) mt_m_mustBeNew 12 0 [(0, 12, 0), (1, 0, a1), (2, 0, a2), (3, 0, a3)] [] σ
set_option maxRecDepth 100000 in
theorem e_m_mustBeNew_19 (d : Nat) (σ : ga_S) (v1 s0 : Int) : m_mustBeNew_19 d σ v1 s0 = ga_ck v1 2600 ((c_m_need d σ s0 9 (σ fM_runFrom 0 v1)).bind fun q3 =>
      ga_ck (q3.2 fM_news 0 0) 2600 (some (0, (ga_up (ga_up q3.2 fM_newRun 0 (q3.2 fM_news 0 0) v1) fM_news 0 0 (w32 ((q3.2 fM_news 0 0) + 1)))))) :=
  ga_blk_eq am_G (am_run d) mt_m_mustBeNew 20 19 [(0, 12, 0), (1, 0, v1)] [(0, s0), (12, 0)] σ

set_option maxRecDepth 100000 in
theorem e_x_feed (d : Nat) (σ : ga_S) (a1 a3 : Int) : c_x_feed (d + 1) σ a1 a3 = if a3 < 1 then
    some ((-1), σ)
  else
    if 8 < a3 then
      some ((-1), σ)
    else
      if 5000 < (w32 ((σ fX_taped 0 0) + a3)) then
        some ((-1), σ)
      else
        x_feed_30 d σ a1 (w32 (a3 - 1)) :=
  ga_blk_eq am_G (am_run d) mt_x_feed 16 0 [(0, 3, 0), (1, 1, a1), (3, 0, a3)] [] σ
set_option maxRecDepth 100000 in
theorem e_x_feed_30 (d : Nat) (σ : ga_S) (v1 v4 : Int) : x_feed_30 d σ v1 v4 = if v4 < 0 then
    some ((σ fX_taped 0 0), σ)
  else
    ga_ck (σ fX_taped 0 0) 5000 (x_feed_30 d (ga_up (ga_up σ fX_taped 0 0 (w32 ((σ fX_taped 0 0) + 1))) fX_tape 0 (σ fX_taped 0 0) (w8 (w8 (w32 (ga_lushr v1 (w32 (8 * v4))))))) v1 (w32 (v4 + (-1)))) :=
  ga_blk_eq am_G (am_run d) mt_x_feed 21 30 [(0, 3, 0), (1, 1, v1), (4, 0, v4)] [] σ
set_option maxRecDepth 100000 in
theorem e_x_wipe (d : Nat) (σ : ga_S) : c_x_wipe (d + 1) σ = some ((σ fX_taped 0 0), (ga_up σ fX_taped 0 0 0)) :=
  ga_blk_eq am_G (am_run d) mt_x_wipe 8 0 [(0, 3, 0)] [] σ
set_option maxRecDepth 100000 in
theorem e_x_read (d : Nat) (σ : ga_S) : c_x_read (d + 1) σ = (c_w_clear d σ).bind fun q1 =>
    (c_t_take_tape d q1.2 0 (q1.2 fX_taped 0 0)).bind fun q2 =>
      ga_nn (0 + 1) ((c_t_take_tape d q2.2 (0 + 1) (q2.2 fX_taped 0 0)).bind fun q3 =>
          (c_r_story d (ga_up (ga_up q3.2 fX_taped 0 0 0) fU_outs 0 0 0) (0 + 1)).bind fun q4 =>
            if q4.1 = (-1) then
              (c_w_clear d q4.2).bind fun q5 =>
                x_read_141 d q5.2 q4.1
            else
              if (q4.2 fW_placed 0 0) = 0 then
                x_read_91 d q4.2 q4.1 0
              else
                x_read_141 d q4.2 q4.1) :=
  ga_blk_eq am_G (am_run d) mt_x_read 41 0 [(0, 3, 0)] [] σ
set_option maxRecDepth 100000 in
theorem e_x_read_141 (d : Nat) (σ : ga_S) (v1 : Int) : x_read_141 d σ v1 = (c_u_arrange d σ).bind fun q6 =>
    if v1 = (-1) then
      some ((w32 ((-10) - (q6.2 fR_where 0 0))), q6.2)
    else
      some (v1, q6.2) :=
  ga_blk_eq am_G (am_run d) mt_x_read 13 141 [(0, 3, 0), (1, 0, v1)] [] σ
set_option maxRecDepth 100000 in
theorem e_x_read_91 (d : Nat) (σ : ga_S) (v1 v2 : Int) : x_read_91 d σ v1 v2 = if v2 < (σ fW_objects 0 0) then
    (c_w_isKind d σ v2 1).bind fun q7 =>
      if q7.1 = 0 then
        x_read_91 d q7.2 v1 (w32 (v2 + 1))
      else
        x_read_120 d q7.2 v1 v2
  else
    x_read_120 d σ v1 v2 :=
  ga_blk_eq am_G (am_run d) mt_x_read 13 91 [(0, 3, 0), (1, 0, v1), (2, 0, v2)] [] σ
set_option maxRecDepth 100000 in
theorem e_x_read_120 (d : Nat) (σ : ga_S) (v1 v2 : Int) : x_read_120 d σ v1 v2 = if v2 < (σ fW_objects 0 0) then
    (c_w_put d σ 0 1 v2).bind fun q8 =>
      x_read_141 d q8.2 v1
  else
    x_read_141 d σ v1 :=
  ga_blk_eq am_G (am_run d) mt_x_read 11 120 [(0, 3, 0), (1, 0, v1), (2, 0, v2)] [] σ
set_option maxRecDepth 100000 in
theorem e_x_fault (d : Nat) (σ : ga_S) : c_x_fault (d + 1) σ = some ((σ fR_fault 0 0), σ) :=
  ga_blk_eq am_G (am_run d) mt_x_fault 4 0 [(0, 3, 0)] [] σ
set_option maxRecDepth 100000 in
theorem e_x_many (d : Nat) (σ : ga_S) (a1 : Int) : c_x_many (d + 1) σ a1 = if a1 = 0 then
    some ((σ fW_kinds 0 0), σ)
  else
    if a1 = 1 then
      some ((σ fW_types 0 0), σ)
    else
      if a1 = 2 then
        some ((σ fW_objects 0 0), σ)
      else
        if a1 = 3 then
          some ((σ fW_adjectives 0 0), σ)
        else
          if a1 = 4 then
            some ((σ fW_values 0 0), σ)
          else
            if a1 = 5 then
              some ((σ fW_properties 0 0), σ)
            else
              if a1 = 6 then
                some ((σ fW_relations 0 0), σ)
              else
                if a1 = 7 then
                  some ((σ fW_verbs 0 0), σ)
                else
                  if a1 = 8 then
                    some ((σ fW_actions 0 0), σ)
                  else
                    if a1 = 9 then
                      some ((σ fW_rules 0 0), σ)
                    else
                      if a1 = 10 then
                        some ((σ fW_commands 0 0), σ)
                      else
                        some ((-1), σ) :=
  ga_blk_eq am_G (am_run d) mt_x_many 6 0 [(0, 3, 0), (1, 0, a1)] [] σ
set_option maxRecDepth 100000 in
theorem e_x_told (d : Nat) (σ : ga_S) (a1 : Int) : c_x_told (d + 1) σ a1 = (c_x_many d σ a1).bind fun q1 =>
    some (q1.1, q1.2) :=
  ga_blk_eq am_G (am_run d) mt_x_told 4 0 [(0, 3, 0), (1, 0, a1)] [] σ
set_option maxRecDepth 100000 in
theorem e_x_name (d : Nat) (σ : ga_S) (a1 a2 a3 : Int) : c_x_name (d + 1) σ a1 a2 a3 = if a1 = 11 then
    x_name_11 d σ a1 a2 a3 1
  else
    x_name_11 d σ a1 a2 a3 0 :=
  ga_blk_eq am_G (am_run d) mt_x_name 5 0 [(0, 3, 0), (1, 0, a1), (2, 0, a2), (3, 0, a3)] [] σ
set_option maxRecDepth 100000 in
theorem e_x_name_11 (d : Nat) (σ : ga_S) (v1 v2 v3 s0 : Int) : x_name_11 d σ v1 v2 v3 s0 = if v1 < 0 then
    some ((-1), σ)
  else
    if 8 < v1 then
      if s0 = 0 then
        some ((-1), σ)
      else
        x_name_28 d σ v1 v2 v3 s0
    else
      x_name_28 d σ v1 v2 v3 s0 :=
  ga_blk_eq am_G (am_run d) mt_x_name 10 11 [(0, 3, 0), (1, 0, v1), (2, 0, v2), (3, 0, v3)] [(0, s0)] σ
set_option maxRecDepth 100000 in
theorem e_x_name_28 (d : Nat) (σ : ga_S) (v1 v2 v3 v4 : Int) : x_name_28 d σ v1 v2 v3 v4 = if v2 < 0 then
    some ((-1), σ)
  else
    if v4 = 0 then
      x_name_44 d σ v1 v2 v3 v4 v1 v2
    else
      x_name_44 d σ v1 v2 v3 v4 0 v2 :=
  ga_blk_eq am_G (am_run d) mt_x_name 8 28 [(0, 3, 0), (1, 0, v1), (2, 0, v2), (3, 0, v3), (4, 0, v4)] [] σ
set_option maxRecDepth 100000 in
theorem e_x_name_44 (d : Nat) (σ : ga_S) (v1 v2 v3 v4 s0 s2 : Int) : x_name_44 d σ v1 v2 v3 v4 s0 s2 = (c_x_many d σ s0).bind fun q1 =>
    if s2 < q1.1 then
      if v4 = 0 then
        x_name_70 d q1.2 v2 v3 v1
      else
        x_name_70 d q1.2 v2 v3 11
    else
      some ((-1), q1.2) :=
  ga_blk_eq am_G (am_run d) mt_x_name 9 44 [(0, 3, 0), (1, 0, v1), (2, 0, v2), (3, 0, v3), (4, 0, v4)] [(0, s0), (3, 0), (0, s2)] σ
set_option maxRecDepth 100000 in
theorem e_x_name_70 (d : Nat) (σ : ga_S) (v2 v3 s0 : Int) : x_name_70 d σ v2 v3 s0 = (c_d_entry d σ s0 v2).bind fun q2 =>
    if q2.1 = (-1) then
      x_name_103 d q2.2
    else
      if v3 < 0 then
        x_name_103 d q2.2
      else
        ga_ck q2.1 640 (if v3 < (q2.2 fD_sizes 0 q2.1) then
            ga_ck q2.1 640 (ga_ck (w32 ((q2.2 fD_froms 0 q2.1) + v3)) 24000 (some ((q2.2 fD_letters 0 (w32 ((q2.2 fD_froms 0 q2.1) + v3))), q2.2)))
          else
            x_name_103 d q2.2) :=
  ga_blk_eq am_G (am_run d) mt_x_name 30 70 [(0, 3, 0), (2, 0, v2), (3, 0, v3)] [(0, s0), (5, 0)] σ
set_option maxRecDepth 100000 in
theorem e_x_name_103 (d : Nat) (σ : ga_S) : x_name_103 d σ = some ((-1), σ) :=
  ga_blk_eq am_G (am_run d) mt_x_name 3 103 [] [] σ
set_option maxRecDepth 100000 in
theorem e_x_kind (d : Nat) (σ : ga_S) (a1 a2 : Int) : c_x_kind (d + 1) σ a1 a2 = if a1 < 0 then
    some ((-1), σ)
  else
    if a1 < (σ fW_kinds 0 0) then
      if a2 < 0 then
        some ((-1), σ)
      else
        if 2 < a2 then
          some ((-1), σ)
        else
          if a2 = 0 then
            ga_ck a1 16 (some ((σ fW_parents 0 a1), σ))
          else
            x_kind_45 d σ a1 a2 0 0
    else
      some ((-1), σ) :=
  ga_blk_eq am_G (am_run d) mt_x_kind 20 0 [(0, 3, 0), (1, 0, a1), (2, 0, a2)] [] σ
set_option maxRecDepth 100000 in
theorem e_x_kind_45 (d : Nat) (σ : ga_S) (v1 v2 v3 v4 : Int) : x_kind_45 d σ v1 v2 v3 v4 = if v4 < (σ fW_properties 0 0) then
    if v2 = 1 then
      (c_w_owns d σ v1 v4).bind fun q1 =>
        if q1.1 = 0 then
          x_kind_81 d q1.2 v1 v2 v4 0 v3
        else
          x_kind_81 d q1.2 v1 v2 v4 1 v3
    else
      x_kind_89 d σ v1 v2 v3
  else
    x_kind_89 d σ v1 v2 v3 :=
  ga_blk_eq am_G (am_run d) mt_x_kind 17 45 [(0, 3, 0), (1, 0, v1), (2, 0, v2), (3, 0, v3), (4, 0, v4)] [] σ
set_option maxRecDepth 100000 in
theorem e_x_kind_89 (d : Nat) (σ : ga_S) (v1 v2 v3 : Int) : x_kind_89 d σ v1 v2 v3 = x_kind_92 d σ v1 v2 v3 0 :=
  ga_blk_eq am_G (am_run d) mt_x_kind 2 89 [(0, 3, 0), (1, 0, v1), (2, 0, v2), (3, 0, v3)] [] σ
set_option maxRecDepth 100000 in
theorem e_x_kind_81 (d : Nat) (σ : ga_S) (v1 v2 v4 s0 s1 : Int) : x_kind_81 d σ v1 v2 v4 s0 s1 = x_kind_45 d σ v1 v2 (w32 (s1 + s0)) (w32 (v4 + 1)) :=
  ga_blk_eq am_G (am_run d) mt_x_kind 4 81 [(0, 3, 0), (1, 0, v1), (2, 0, v2), (4, 0, v4)] [(0, s0), (0, s1)] σ
set_option maxRecDepth 100000 in
theorem e_x_kind_92 (d : Nat) (σ : ga_S) (v1 v2 v3 v4 : Int) : x_kind_92 d σ v1 v2 v3 v4 = if v4 < (σ fW_adjectives 0 0) then
    if v2 = 2 then
      ga_ck v4 24 ((c_w_isBelow d σ v1 (σ fW_adjectiveKinds 0 v4)).bind fun q2 =>
          if q2.1 = 0 then
            x_kind_136 d q2.2 v1 v2 v4 0 v3
          else
            x_kind_136 d q2.2 v1 v2 v4 1 v3)
    else
      some (v3, σ)
  else
    some (v3, σ) :=
  ga_blk_eq am_G (am_run d) mt_x_kind 21 92 [(0, 3, 0), (1, 0, v1), (2, 0, v2), (3, 0, v3), (4, 0, v4)] [] σ
set_option maxRecDepth 100000 in
theorem e_x_kind_136 (d : Nat) (σ : ga_S) (v1 v2 v4 s0 s1 : Int) : x_kind_136 d σ v1 v2 v4 s0 s1 = x_kind_92 d σ v1 v2 (w32 (s1 + s0)) (w32 (v4 + 1)) :=
  ga_blk_eq am_G (am_run d) mt_x_kind 4 136 [(0, 3, 0), (1, 0, v1), (2, 0, v2), (4, 0, v4)] [(0, s0), (0, s1)] σ
set_option maxRecDepth 100000 in
theorem e_x_isObject (d : Nat) (σ : ga_S) (a1 : Int) : c_x_isObject (d + 1) σ a1 = if a1 < 0 then
    some (0, σ)
  else
    if a1 < (σ fW_objects 0 0) then
      some (1, σ)
    else
      some (0, σ) :=
  ga_blk_eq am_G (am_run d) mt_x_isObject 10 0 [(0, 3, 0), (1, 0, a1)] [] σ
set_option maxRecDepth 100000 in
theorem e_x_object (d : Nat) (σ : ga_S) (a1 a2 : Int) : c_x_object (d + 1) σ a1 a2 = (c_x_isObject d σ a1).bind fun q1 =>
    if q1.1 = 0 then
      some ((-1), q1.2)
    else
      if a2 = 0 then
        ga_ck a1 24 (some ((q1.2 fW_kindOf 0 a1), q1.2))
      else
        if a2 = 1 then
          ga_ck a1 24 (some ((q1.2 fW_placed 0 a1), q1.2))
        else
          if a2 = 2 then
            ga_ck a1 24 (some ((q1.2 fW_placeAt 0 a1), q1.2))
          else
            some ((-1), q1.2) :=
  ga_blk_eq am_G (am_run d) mt_x_object 19 0 [(0, 3, 0), (1, 0, a1), (2, 0, a2)] [] σ
set_option maxRecDepth 100000 in
theorem e_x_is (d : Nat) (σ : ga_S) (a1 a2 : Int) : c_x_is (d + 1) σ a1 a2 = (c_x_isObject d σ a1).bind fun q1 =>
    if q1.1 = 0 then
      some ((-1), q1.2)
    else
      if a2 < 0 then
        some ((-1), q1.2)
      else
        if a2 < (q1.2 fW_adjectives 0 0) then
          ga_ck a2 24 ((c_w_isKind d q1.2 a1 (q1.2 fW_adjectiveKinds 0 a2)).bind fun q2 =>
              if q2.1 = 0 then
                some ((-1), q2.2)
              else
                (c_u_holds d q2.2 a1 a2).bind fun q3 =>
                  if q3.1 = 0 then
                    some (0, q3.2)
                  else
                    some (1, q3.2))
        else
          some ((-1), q1.2) :=
  ga_blk_eq am_G (am_run d) mt_x_is 30 0 [(0, 3, 0), (1, 0, a1), (2, 0, a2)] [] σ
set_option maxRecDepth 100000 in
theorem e_x_isOwned (d : Nat) (σ : ga_S) (a1 a2 : Int) : c_x_isOwned (d + 1) σ a1 a2 = (c_x_isObject d σ a1).bind fun q1 =>
    if q1.1 = 0 then
      some (0, q1.2)
    else
      if a2 < 0 then
        some (0, q1.2)
      else
        if a2 < (q1.2 fW_properties 0 0) then
          ga_ck a1 24 ((c_w_owns d q1.2 (q1.2 fW_kindOf 0 a1) a2).bind fun q2 =>
              if q2.1 = 0 then
                some (0, q2.2)
              else
                some (1, q2.2))
        else
          some (0, q1.2) :=
  ga_blk_eq am_G (am_run d) mt_x_isOwned 24 0 [(0, 3, 0), (1, 0, a1), (2, 0, a2)] [] σ
set_option maxRecDepth 100000 in
theorem e_x_property (d : Nat) (σ : ga_S) (a1 a2 : Int) : c_x_property (d + 1) σ a1 a2 = (c_x_isOwned d σ a1 a2).bind fun q1 =>
    if q1.1 = 0 then
      some ((-1), q1.2)
    else
      ga_ck a2 12 (if (q1.2 fW_propertyTypes 0 a2) = 1 then
          (c_w_hasAt d q1.2 a1 a2).bind fun q2 =>
            if q2.1 = (-1) then
              some (0, q2.2)
            else
              ga_ck q2.1 40 (ga_nn q2.1 (ga_ck a2 12 (some ((q2.2 fW_lengths q2.1 a2), q2.2))))
        else
          (c_w_number d q1.2 a1 a2).bind fun q3 =>
            some (q3.1, q3.2)) :=
  ga_blk_eq am_G (am_run d) mt_x_property 29 0 [(0, 3, 0), (1, 0, a1), (2, 0, a2)] [] σ
set_option maxRecDepth 100000 in
theorem e_x_letter (d : Nat) (σ : ga_S) (a1 a2 a3 : Int) : c_x_letter (d + 1) σ a1 a2 a3 = (c_x_isOwned d σ a1 a2).bind fun q1 =>
    if q1.1 = 0 then
      some ((-1), q1.2)
    else
      ga_ck a2 12 (if (q1.2 fW_propertyTypes 0 a2) = 1 then
          (c_w_hasAt d q1.2 a1 a2).bind fun q2 =>
            if q2.1 = (-1) then
              x_letter_61 d q2.2
            else
              if a3 < 0 then
                x_letter_61 d q2.2
              else
                ga_ck q2.1 40 (ga_nn q2.1 (ga_ck a2 12 (if a3 < (q2.2 fW_lengths q2.1 a2) then
                        ga_nn (0 + 1) (ga_ck q2.1 40 (ga_nn q2.1 (ga_ck a2 12 (ga_nn (0 + 1) (ga_ck (w32 ((q2.2 fW_numbers q2.1 a2) + a3)) 5000 (some ((q2.2 fT_bytes (0 + 1) (w32 ((q2.2 fW_numbers q2.1 a2) + a3))), q2.2)))))))
                      else
                        x_letter_61 d q2.2)))
        else
          some ((-1), q1.2)) :=
  ga_blk_eq am_G (am_run d) mt_x_letter 46 0 [(0, 3, 0), (1, 0, a1), (2, 0, a2), (3, 0, a3)] [] σ
set_option maxRecDepth 100000 in
theorem e_x_letter_61 (d : Nat) (σ : ga_S) : x_letter_61 d σ = some ((-1), σ) :=
  ga_blk_eq am_G (am_run d) mt_x_letter 3 61 [] [] σ
set_option maxRecDepth 100000 in
theorem e_x_leads (d : Nat) (σ : ga_S) (a1 a2 : Int) : c_x_leads (d + 1) σ a1 a2 = (c_x_isObject d σ a1).bind fun q1 =>
    if q1.1 = 0 then
      x_leads_30 d q1.2
    else
      if a2 < 0 then
        x_leads_30 d q1.2
      else
        if a2 < 6 then
          (c_w_isKind d q1.2 a1 1).bind fun q2 =>
            if q2.1 = 0 then
              x_leads_30 d q2.2
            else
              (c_w_leads d q2.2 a1 a2).bind fun q3 =>
                some (q3.1, q3.2)
        else
          x_leads_30 d q1.2 :=
  ga_blk_eq am_G (am_run d) mt_x_leads 21 0 [(0, 3, 0), (1, 0, a1), (2, 0, a2)] [] σ
set_option maxRecDepth 100000 in
theorem e_x_leads_30 (d : Nat) (σ : ga_S) : x_leads_30 d σ = some ((-1), σ) :=
  ga_blk_eq am_G (am_run d) mt_x_leads 3 30 [] [] σ
set_option maxRecDepth 100000 in
theorem e_x_related (d : Nat) (σ : ga_S) (a1 a2 a3 : Int) : c_x_related (d + 1) σ a1 a2 a3 = if a1 < 0 then
    some (0, σ)
  else
    if a1 < (σ fW_relations 0 0) then
      (c_x_isObject d σ a2).bind fun q1 =>
        if q1.1 = 0 then
          some (0, q1.2)
        else
          (c_x_isObject d q1.2 a3).bind fun q2 =>
            if q2.1 = 0 then
              some (0, q2.2)
            else
              ga_ck a1 6 (ga_nn a1 (ga_ck (w32 ((w32 (24 * a2)) + a3)) 576 (if (q2.2 fW_related a1 (w32 ((w32 (24 * a2)) + a3))) = 0 then
                      some (0, q2.2)
                    else
                      some (1, q2.2))))
    else
      some (0, σ) :=
  ga_blk_eq am_G (am_run d) mt_x_related 30 0 [(0, 3, 0), (1, 0, a1), (2, 0, a2), (3, 0, a3)] [] σ
set_option maxRecDepth 100000 in
theorem e_x_rule (d : Nat) (σ : ga_S) (a1 a2 : Int) : c_x_rule (d + 1) σ a1 a2 = if a1 < 0 then
    some ((-1), σ)
  else
    if a1 < (σ fW_rules 0 0) then
      if a2 < 0 then
        some ((-1), σ)
      else
        if 7 < a2 then
          some ((-1), σ)
        else
          ga_ck a1 24 (if a2 = 0 then
              ga_nn (σ fW_rule 0 a1) (some ((σ fQ_sort (σ fW_rule 0 a1) 0), σ))
            else
              if a2 = 1 then
                ga_nn (σ fW_rule 0 a1) (some ((σ fQ_action (σ fW_rule 0 a1) 0), σ))
              else
                if a2 = 2 then
                  ga_nn (σ fW_rule 0 a1) (some ((σ fQ_object (σ fW_rule 0 a1) 0), σ))
                else
                  if a2 = 3 then
                    ga_nn (σ fW_rule 0 a1) (some ((σ fQ_kind (σ fW_rule 0 a1) 0), σ))
                  else
                    if a2 = 4 then
                      ga_nn (σ fW_rule 0 a1) (some ((σ fQ_adjectives (σ fW_rule 0 a1) 0), σ))
                    else
                      if a2 = 5 then
                        ga_nn (σ fW_rule 0 a1) (some ((σ fQ_tests (σ fW_rule 0 a1) 0), σ))
                      else
                        if a2 = 6 then
                          ga_nn (σ fW_rule 0 a1) (some ((σ fQ_phrases (σ fW_rule 0 a1) 0), σ))
                        else
                          (c_u_placeOf d σ a1).bind fun q1 =>
                            some (q1.1, q1.2))
    else
      some ((-1), σ) :=
  ga_blk_eq am_G (am_run d) mt_x_rule 25 0 [(0, 3, 0), (1, 0, a1), (2, 0, a2)] [] σ
set_option maxRecDepth 100000 in
theorem e_x_act (d : Nat) (σ : ga_S) (a1 a2 : Int) : c_x_act (d + 1) σ a1 a2 = if a1 < 0 then
    some ((-1), σ)
  else
    if a1 < (σ fW_actions 0 0) then
      ga_ck a1 12 (if (σ fW_actionKinds 0 a1) = (-1) then
          if a2 = (-1) then
            x_act_94 d σ a1 a2 1
          else
            x_act_94 d σ a1 a2 0
        else
          if (σ fW_actionKinds 0 a1) = (-2) then
            if a2 < 0 then
              x_act_65 d σ a1 a2
            else
              if a2 < 6 then
                x_act_94 d σ a1 a2 1
              else
                x_act_65 d σ a1 a2
          else
            (c_x_isObject d σ a2).bind fun q1 =>
              if q1.1 = 0 then
                x_act_93 d q1.2 a1 a2
              else
                (c_w_isKind d q1.2 a2 (σ fW_actionKinds 0 a1)).bind fun q2 =>
                  if q2.1 = 0 then
                    x_act_93 d q2.2 a1 a2
                  else
                    x_act_94 d q2.2 a1 a2 1)
    else
      some ((-1), σ) :=
  ga_blk_eq am_G (am_run d) mt_x_act 31 0 [(0, 3, 0), (1, 0, a1), (2, 0, a2)] [] σ
set_option maxRecDepth 100000 in
theorem e_x_act_93 (d : Nat) (σ : ga_S) (v1 v2 : Int) : x_act_93 d σ v1 v2 = x_act_94 d σ v1 v2 0 :=
  ga_blk_eq am_G (am_run d) mt_x_act 1 93 [(0, 3, 0), (1, 0, v1), (2, 0, v2)] [] σ
set_option maxRecDepth 100000 in
theorem e_x_act_94 (d : Nat) (σ : ga_S) (v1 v2 s0 : Int) : x_act_94 d σ v1 v2 s0 = if s0 = 0 then
    some ((-1), σ)
  else
    (c_u_turn d σ v1 v2).bind fun q3 =>
      some (q3.1, q3.2) :=
  ga_blk_eq am_G (am_run d) mt_x_act 10 94 [(0, 3, 0), (1, 0, v1), (2, 0, v2)] [(0, s0)] σ
set_option maxRecDepth 100000 in
theorem e_x_act_65 (d : Nat) (σ : ga_S) (v1 v2 : Int) : x_act_65 d σ v1 v2 = x_act_94 d σ v1 v2 0 :=
  ga_blk_eq am_G (am_run d) mt_x_act 2 65 [(0, 3, 0), (1, 0, v1), (2, 0, v2)] [] σ
set_option maxRecDepth 100000 in
theorem e_x_isWords (d : Nat) (σ : ga_S) : c_x_isWords (d + 1) σ = x_isWords_7 d (ga_up σ fX_wordCount 0 0 0) 0 :=
  ga_blk_eq am_G (am_run d) mt_x_isWords 5 0 [(0, 3, 0)] [] σ
set_option maxRecDepth 100000 in
theorem e_x_isWords_7 (d : Nat) (σ : ga_S) (v1 : Int) : x_isWords_7 d σ v1 = if v1 < (σ fX_taped 0 0) then
    ga_ck v1 5000 (if (σ fX_tape 0 v1) = 32 then
        x_isWords_7 d σ (w32 (v1 + 1))
      else
        x_isWords_34 d σ v1 v1)
  else
    some (1, σ) :=
  ga_blk_eq am_G (am_run d) mt_x_isWords 12 7 [(0, 3, 0), (1, 0, v1)] [] σ
set_option maxRecDepth 100000 in
theorem e_x_isWords_34 (d : Nat) (σ : ga_S) (v1 v2 : Int) : x_isWords_34 d σ v1 v2 = if v2 < (σ fX_taped 0 0) then
    (c_x_low d σ v2).bind fun q1 =>
      (c_t_isLetter d q1.2 q1.1).bind fun q2 =>
        if q2.1 = 0 then
          x_isWords_59 d q2.2 v1 v2
        else
          x_isWords_34 d q2.2 v1 (w32 (v2 + 1))
  else
    x_isWords_59 d σ v1 v2 :=
  ga_blk_eq am_G (am_run d) mt_x_isWords 11 34 [(0, 3, 0), (1, 0, v1), (2, 0, v2)] [] σ
set_option maxRecDepth 100000 in
theorem e_x_isWords_59 (d : Nat) (σ : ga_S) (v1 v2 : Int) : x_isWords_59 d σ v1 v2 = if v2 = v1 then
    some (0, σ)
  else
    if (σ fX_wordCount 0 0) = 50 then
      some (0, σ)
    else
      if v2 < (σ fX_taped 0 0) then
        ga_ck v2 5000 (if (σ fX_tape 0 v2) = 32 then
            x_isWords_94 d σ v1 v2
          else
            some (0, σ))
      else
        x_isWords_94 d σ v1 v2 :=
  ga_blk_eq am_G (am_run d) mt_x_isWords 19 59 [(0, 3, 0), (1, 0, v1), (2, 0, v2)] [] σ
set_option maxRecDepth 100000 in
theorem e_x_isWords_94 (d : Nat) (σ : ga_S) (v1 v2 : Int) : x_isWords_94 d σ v1 v2 = ga_ck (σ fX_wordCount 0 0) 50 (ga_ck (σ fX_wordCount 0 0) 50 (x_isWords_7 d (ga_up (ga_up (ga_up σ fX_wordFrom 0 (σ fX_wordCount 0 0) v1) fX_wordTo 0 (σ fX_wordCount 0 0) v2) fX_wordCount 0 0 (w32 ((σ fX_wordCount 0 0) + 1))) v2)) :=
  ga_blk_eq am_G (am_run d) mt_x_isWords 21 94 [(0, 3, 0), (1, 0, v1), (2, 0, v2)] [] σ
set_option maxRecDepth 100000 in
theorem e_x_low (d : Nat) (σ : ga_S) (a1 : Int) : c_x_low (d + 1) σ a1 = ga_ck a1 5000 (if (σ fX_tape 0 a1) < 65 then
      some ((σ fX_tape 0 a1), σ)
    else
      if 90 < (σ fX_tape 0 a1) then
        some ((σ fX_tape 0 a1), σ)
      else
        some ((w32 ((σ fX_tape 0 a1) + 32)), σ)) :=
  ga_blk_eq am_G (am_run d) mt_x_low 16 0 [(0, 3, 0), (1, 0, a1)] [] σ
set_option maxRecDepth 100000 in
theorem e_x_named (d : Nat) (σ : ga_S) (a1 a2 : Int) : c_x_named (d + 1) σ a1 a2 = ga_ck a1 640 (ga_ck a1 640 (x_named_30 d σ a2 (σ fD_froms 0 a1) (w32 ((σ fD_froms 0 a1) + (σ fD_sizes 0 a1))) 0)) :=
  ga_blk_eq am_G (am_run d) mt_x_named 18 0 [(0, 3, 0), (1, 0, a1), (2, 0, a2)] [] σ
set_option maxRecDepth 100000 in
theorem e_x_named_30 (d : Nat) (σ : ga_S) (v2 v4 v5 v6 : Int) : x_named_30 d σ v2 v4 v5 v6 = if v4 < v5 then
    x_named_41 d σ v2 v4 v5 v6 v4
  else
    some (v6, σ) :=
  ga_blk_eq am_G (am_run d) mt_x_named 5 30 [(0, 3, 0), (2, 0, v2), (3, 5, 0), (4, 0, v4), (5, 0, v5), (6, 0, v6)] [] σ
set_option maxRecDepth 100000 in
theorem e_x_named_41 (d : Nat) (σ : ga_S) (v2 v4 v5 v6 v7 : Int) : x_named_41 d σ v2 v4 v5 v6 v7 = if v7 < v5 then
    ga_ck v7 24000 (if (σ fD_letters 0 v7) = 32 then
        x_named_66 d σ v2 v4 v5 v6 v7
      else
        x_named_41 d σ v2 v4 v5 v6 (w32 (v7 + 1)))
  else
    x_named_66 d σ v2 v4 v5 v6 v7 :=
  ga_blk_eq am_G (am_run d) mt_x_named 11 41 [(0, 3, 0), (2, 0, v2), (3, 5, 0), (4, 0, v4), (5, 0, v5), (6, 0, v6), (7, 0, v7)] [] σ
set_option maxRecDepth 100000 in
theorem e_x_named_66 (d : Nat) (σ : ga_S) (v2 v4 v5 v6 v7 : Int) : x_named_66 d σ v2 v4 v5 v6 v7 = if (w32 (v2 + v6)) < (σ fX_wordCount 0 0) then
    (c_x_isWord_letters d σ (w32 (v2 + v6)) v4 (w32 (v7 - v4))).bind fun q1 =>
      if q1.1 = 0 then
        some ((-1), q1.2)
      else
        x_named_30 d q1.2 v2 (w32 (v7 + 1)) v5 (w32 (v6 + 1))
  else
    some ((-1), σ) :=
  ga_blk_eq am_G (am_run d) mt_x_named 24 66 [(0, 3, 0), (2, 0, v2), (3, 5, 0), (4, 0, v4), (5, 0, v5), (6, 0, v6), (7, 0, v7)] [] σ
set_option maxRecDepth 100000 in
theorem e_x_fits (d : Nat) (σ : ga_S) (a1 a2 : Int) : c_x_fits (d + 1) σ a1 a2 = ga_ck a1 20 (ga_ck a1 20 (if (σ fW_commandSlots 0 a1) = (-1) then
        x_fits_40 d σ a1 a2 (σ fW_commandWords 0 a1) (σ fW_commandSlots 0 a1) (σ fW_commandWords 0 a1) (σ fX_wordCount 0 0)
      else
        x_fits_40 d σ a1 a2 (σ fW_commandWords 0 a1) (σ fW_commandSlots 0 a1) (w32 ((w32 ((σ fW_commandWords 0 a1) - 1)) + a2)) (σ fX_wordCount 0 0))) :=
  ga_blk_eq am_G (am_run d) mt_x_fits 22 0 [(0, 3, 0), (1, 0, a1), (2, 0, a2)] [] σ
set_option maxRecDepth 100000 in
theorem e_x_fits_40 (d : Nat) (σ : ga_S) (v1 v2 v3 v4 s0 s1 : Int) : x_fits_40 d σ v1 v2 v3 v4 s0 s1 = if s1 = s0 then
    x_fits_48 d σ v1 v2 v3 v4 1
  else
    x_fits_48 d σ v1 v2 v3 v4 0 :=
  ga_blk_eq am_G (am_run d) mt_x_fits 3 40 [(0, 3, 0), (1, 0, v1), (2, 0, v2), (3, 0, v3), (4, 0, v4)] [(0, s0), (0, s1)] σ
set_option maxRecDepth 100000 in
theorem e_x_fits_48 (d : Nat) (σ : ga_S) (v1 v2 v3 v4 s0 : Int) : x_fits_48 d σ v1 v2 v3 v4 s0 = x_fits_53 d σ v1 v2 v3 v4 s0 0 :=
  ga_blk_eq am_G (am_run d) mt_x_fits 3 48 [(0, 3, 0), (1, 0, v1), (2, 0, v2), (3, 0, v3), (4, 0, v4)] [(0, s0)] σ
set_option maxRecDepth 100000 in
theorem e_x_fits_53 (d : Nat) (σ : ga_S) (v1 v2 v3 v4 v5 v6 : Int) : x_fits_53 d σ v1 v2 v3 v4 v5 v6 = if v6 < v3 then
    if v5 = 0 then
      ga_01 v5 (some (v5, σ))
    else
      if v6 = v4 then
        x_fits_136 d σ v1 v2 v3 v4 v5 v6
      else
        if v4 = (-1) then
          x_fits_93 d σ v1 v2 v3 v4 v6
        else
          if v4 < v6 then
            x_fits_95 d σ v1 v2 v3 v4 v6 (w32 ((w32 (v6 - 1)) + v2))
          else
            x_fits_93 d σ v1 v2 v3 v4 v6
  else
    ga_01 v5 (some (v5, σ)) :=
  ga_blk_eq am_G (am_run d) mt_x_fits 20 53 [(0, 3, 0), (1, 0, v1), (2, 0, v2), (3, 0, v3), (4, 0, v4), (5, 0, v5), (6, 0, v6)] [] σ
set_option maxRecDepth 100000 in
theorem e_x_fits_136 (d : Nat) (σ : ga_S) (v1 v2 v3 v4 v5 v6 : Int) : x_fits_136 d σ v1 v2 v3 v4 v5 v6 = x_fits_53 d σ v1 v2 v3 v4 v5 (w32 (v6 + 1)) :=
  ga_blk_eq am_G (am_run d) mt_x_fits 2 136 [(0, 3, 0), (1, 0, v1), (2, 0, v2), (3, 0, v3), (4, 0, v4), (5, 0, v5), (6, 0, v6)] [] σ
set_option maxRecDepth 100000 in
theorem e_x_fits_93 (d : Nat) (σ : ga_S) (v1 v2 v3 v4 v6 : Int) : x_fits_93 d σ v1 v2 v3 v4 v6 = x_fits_95 d σ v1 v2 v3 v4 v6 v6 :=
  ga_blk_eq am_G (am_run d) mt_x_fits 1 93 [(0, 3, 0), (1, 0, v1), (2, 0, v2), (3, 0, v3), (4, 0, v4), (6, 0, v6)] [] σ
set_option maxRecDepth 100000 in
theorem e_x_fits_95 (d : Nat) (σ : ga_S) (v1 v2 v3 v4 v6 s0 : Int) : x_fits_95 d σ v1 v2 v3 v4 v6 s0 = ga_ck v1 20 (ga_nn v1 (ga_ck v6 8 (ga_ck v1 20 (ga_nn v1 (ga_ck v6 8 ((c_x_isWord_commandLetters d σ s0 (σ fW_commandFrom v1 v6) (σ fW_commandSize v1 v6)).bind fun q1 =>
                x_fits_136 d q1.2 v1 v2 v3 v4 q1.1 v6)))))) :=
  ga_blk_eq am_G (am_run d) mt_x_fits 22 95 [(0, 3, 0), (1, 0, v1), (2, 0, v2), (3, 0, v3), (4, 0, v4), (6, 0, v6)] [(0, s0)] σ
set_option maxRecDepth 100000 in
theorem e_x_slot (d : Nat) (σ : ga_S) (a1 : Int) : c_x_slot (d + 1) σ a1 = ga_ck a1 20 (if (σ fW_commandKinds 0 a1) = (-2) then
      x_slot_19 d σ a1 1
    else
      x_slot_19 d σ a1 0) :=
  ga_blk_eq am_G (am_run d) mt_x_slot 9 0 [(0, 3, 0), (1, 0, a1)] [] σ
set_option maxRecDepth 100000 in
theorem e_x_slot_19 (d : Nat) (σ : ga_S) (v1 s0 : Int) : x_slot_19 d σ v1 s0 = if s0 = 0 then
    x_slot_36 d σ v1 s0 (σ fW_objects 0 0)
  else
    x_slot_36 d σ v1 s0 6 :=
  ga_blk_eq am_G (am_run d) mt_x_slot 6 19 [(0, 3, 0), (1, 0, v1)] [(0, s0)] σ
set_option maxRecDepth 100000 in
theorem e_x_slot_36 (d : Nat) (σ : ga_S) (v1 v2 s0 : Int) : x_slot_36 d σ v1 v2 s0 = x_slot_40 d σ v1 v2 s0 0 :=
  ga_blk_eq am_G (am_run d) mt_x_slot 3 36 [(0, 3, 0), (1, 0, v1), (2, 0, v2)] [(0, s0)] σ
set_option maxRecDepth 100000 in
theorem e_x_slot_40 (d : Nat) (σ : ga_S) (v1 v2 v3 v4 : Int) : x_slot_40 d σ v1 v2 v3 v4 = if v4 < v3 then
    if v2 = 0 then
      ga_ck v1 20 ((c_w_isKind d σ v4 (σ fW_commandKinds 0 v1)).bind fun q1 =>
          if q1.1 = 0 then
            x_slot_127 d q1.2 v1 v2 v3 v4
          else
            x_slot_71 d q1.2 v1 v2 v3 v4)
    else
      x_slot_71 d σ v1 v2 v3 v4
  else
    some ((-1), σ) :=
  ga_blk_eq am_G (am_run d) mt_x_slot 15 40 [(0, 3, 0), (1, 0, v1), (2, 0, v2), (3, 0, v3), (4, 0, v4)] [] σ
set_option maxRecDepth 100000 in
theorem e_x_slot_71 (d : Nat) (σ : ga_S) (v1 v2 v3 v4 : Int) : x_slot_71 d σ v1 v2 v3 v4 = if v2 = 0 then
    x_slot_89 d σ v1 v2 v3 v4 2
  else
    x_slot_89 d σ v1 v2 v3 v4 9 :=
  ga_blk_eq am_G (am_run d) mt_x_slot 8 71 [(0, 3, 0), (1, 0, v1), (2, 0, v2), (3, 0, v3), (4, 0, v4)] [] σ
set_option maxRecDepth 100000 in
theorem e_x_slot_127 (d : Nat) (σ : ga_S) (v1 v2 v3 v4 : Int) : x_slot_127 d σ v1 v2 v3 v4 = x_slot_40 d σ v1 v2 v3 (w32 (v4 + 1)) :=
  ga_blk_eq am_G (am_run d) mt_x_slot 2 127 [(0, 3, 0), (1, 0, v1), (2, 0, v2), (3, 0, v3), (4, 0, v4)] [] σ
set_option maxRecDepth 100000 in
theorem e_x_slot_89 (d : Nat) (σ : ga_S) (v1 v2 v3 v4 s0 : Int) : x_slot_89 d σ v1 v2 v3 v4 s0 = (c_d_entry d σ s0 v4).bind fun q2 =>
    ga_ck v1 20 ((c_x_named d q2.2 q2.1 (q2.2 fW_commandSlots 0 v1)).bind fun q3 =>
        if q3.1 = (-1) then
          x_slot_127 d q3.2 v1 v2 v3 v4
        else
          (c_x_fits d q3.2 v1 q3.1).bind fun q4 =>
            if q4.1 = 0 then
              x_slot_127 d q4.2 v1 v2 v3 v4
            else
              some (v4, q4.2)) :=
  ga_blk_eq am_G (am_run d) mt_x_slot 19 89 [(0, 3, 0), (1, 0, v1), (2, 0, v2), (3, 0, v3), (4, 0, v4)] [(0, s0), (5, 0), (3, 0)] σ
set_option maxRecDepth 100000 in
theorem e_x_command (d : Nat) (σ : ga_S) : c_x_command (d + 1) σ = (c_x_isWords d σ).bind fun q1 =>
    x_command_10 d q1.2 q1.1 (-2) 0 :=
  ga_blk_eq am_G (am_run d) mt_x_command 7 0 [(0, 3, 0)] [] σ
set_option maxRecDepth 100000 in
theorem e_x_command_10 (d : Nat) (σ : ga_S) (v1 v2 v3 : Int) : x_command_10 d σ v1 v2 v3 = if v3 < (σ fW_commands 0 0) then
    if v1 = 0 then
      x_command_113 d σ v2
    else
      if v2 = (-2) then
        ga_ck v3 20 (if (σ fW_commandSlots 0 v3) = (-1) then
            x_command_53 d σ v1 v2 v3 (-1)
          else
            (c_x_slot d σ v3).bind fun q2 =>
              x_command_53 d q2.2 v1 v2 v3 q2.1)
      else
        x_command_113 d σ v2
  else
    x_command_113 d σ v2 :=
  ga_blk_eq am_G (am_run d) mt_x_command 20 10 [(0, 3, 0), (1, 0, v1), (2, 0, v2), (3, 0, v3)] [] σ
set_option maxRecDepth 100000 in
theorem e_x_command_113 (d : Nat) (σ : ga_S) (v2 : Int) : x_command_113 d σ v2 = some (v2, (ga_up σ fX_taped 0 0 0)) :=
  ga_blk_eq am_G (am_run d) mt_x_command 5 113 [(0, 3, 0), (2, 0, v2)] [] σ
set_option maxRecDepth 100000 in
theorem e_x_command_53 (d : Nat) (σ : ga_S) (v1 v2 v3 s0 : Int) : x_command_53 d σ v1 v2 v3 s0 = ga_ck v3 20 (if (σ fW_commandSlots 0 v3) = (-1) then
      (c_x_fits d σ v3 0).bind fun q3 =>
        if q3.1 = 0 then
          x_command_107 d q3.2 v1 v2 v3
        else
          x_command_86 d q3.2 v1 v3 s0
    else
      if s0 = (-1) then
        x_command_107 d σ v1 v2 v3
      else
        x_command_86 d σ v1 v3 s0) :=
  ga_blk_eq am_G (am_run d) mt_x_command 14 53 [(0, 3, 0), (1, 0, v1), (2, 0, v2), (3, 0, v3)] [(0, s0)] σ
set_option maxRecDepth 100000 in
theorem e_x_command_107 (d : Nat) (σ : ga_S) (v1 v2 v3 : Int) : x_command_107 d σ v1 v2 v3 = x_command_10 d σ v1 v2 (w32 (v3 + 1)) :=
  ga_blk_eq am_G (am_run d) mt_x_command 2 107 [(0, 3, 0), (1, 0, v1), (2, 0, v2), (3, 0, v3)] [] σ
set_option maxRecDepth 100000 in
theorem e_x_command_86 (d : Nat) (σ : ga_S) (v1 v3 v4 : Int) : x_command_86 d σ v1 v3 v4 = ga_ck v3 20 ((c_x_act d (ga_up σ fX_taped 0 0 0) (σ fW_commandActions 0 v3) v4).bind fun q4 =>
      x_command_107 d q4.2 v1 q4.1 v3) :=
  ga_blk_eq am_G (am_run d) mt_x_command 12 86 [(0, 3, 0), (1, 0, v1), (3, 0, v3), (4, 0, v4)] [] σ
set_option maxRecDepth 100000 in
theorem e_x_outs (d : Nat) (σ : ga_S) : c_x_outs (d + 1) σ = some ((σ fU_outs 0 0), σ) :=
  ga_blk_eq am_G (am_run d) mt_x_outs 4 0 [(0, 3, 0)] [] σ
set_option maxRecDepth 100000 in
theorem e_x_out (d : Nat) (σ : ga_S) (a1 : Int) : c_x_out (d + 1) σ a1 = if a1 < 0 then
    x_out_15 d σ
  else
    if a1 < (σ fU_outs 0 0) then
      ga_ck a1 2000 (some ((ga_iand (σ fU_out 0 a1) 255), σ))
    else
      x_out_15 d σ :=
  ga_blk_eq am_G (am_run d) mt_x_out 15 0 [(0, 3, 0), (1, 0, a1)] [] σ
set_option maxRecDepth 100000 in
theorem e_x_out_15 (d : Nat) (σ : ga_S) : x_out_15 d σ = some ((-1), σ) :=
  ga_blk_eq am_G (am_run d) mt_x_out 3 15 [] [] σ
set_option maxRecDepth 100000 in
theorem e_x_clear (d : Nat) (σ : ga_S) : c_x_clear (d + 1) σ = some ((σ fU_outs 0 0), (ga_up σ fU_outs 0 0 0)) :=
  ga_blk_eq am_G (am_run d) mt_x_clear 10 0 [(0, 3, 0)] [] σ
set_option maxRecDepth 100000 in
theorem e_w_tell (d : Nat) (σ : ga_S) (a1 a2 a3 : Int) : c_w_tell (d + 1) σ a1 a2 a3 = (c_d_spellS d σ a1).bind fun q1 =>
    (c_d_tell d q1.2 a2 a3).bind fun q2 =>
      some (0, q2.2) :=
  ga_blk_eq am_G (am_run d) mt_w_tell 10 0 [(0, 4, 0), (1, 2, a1), (2, 0, a2), (3, 0, a3)] [] σ
set_option maxRecDepth 100000 in
theorem e_w_clear (d : Nat) (σ : ga_S) : c_w_clear (d + 1) σ = (c_d_clear d σ).bind fun q1 =>
    w_clear_74 d (ga_up (ga_up (ga_up (ga_up (ga_up (ga_up (ga_up (ga_up (ga_up (ga_up (ga_up (ga_up (ga_up q1.2 fW_kinds 0 0 0) fW_types 0 0 0) fW_values 0 0 0) fW_objects 0 0 0) fW_adjectives 0 0 0) fW_properties 0 0 0) fW_toldWays 0 0 0) fW_relations 0 0 0) fW_verbs 0 0 0) fW_actions 0 0 0) fW_rules 0 0 0) fW_commands 0 0 0) fW_commandUsed 0 0 0) 0 :=
  ga_blk_eq am_G (am_run d) mt_w_clear 44 0 [(0, 4, 0)] [] σ
set_option maxRecDepth 100000 in
theorem e_w_clear_74 (d : Nat) (σ : ga_S) (v1 : Int) : w_clear_74 d σ v1 = if v1 < 40 then
    w_clear_82 d σ v1 0
  else
    (c_w_firstKind d σ 0 1 (-1)).bind fun q2 =>
      (c_w_firstKind d q2.2 2 3 (-1)).bind fun q3 =>
        (c_w_firstKind d q3.2 4 5 0).bind fun q4 =>
          (c_w_firstKind d q4.2 6 7 0).bind fun q5 =>
            (c_w_firstKind d q5.2 8 9 0).bind fun q6 =>
              (c_w_newType d q6.2).bind fun q7 =>
                (c_w_tell d q7.2 10 1 q7.1).bind fun q8 =>
                  (c_w_newType d q8.2).bind fun q9 =>
                    (c_w_tell d q9.2 11 1 q9.1).bind fun q10 =>
                      (c_w_newAdjectives d q10.2 0).bind fun q11 =>
                        (c_w_tell d q11.2 12 3 q11.1).bind fun q12 =>
                          (c_w_tell d q12.2 13 3 (w32 (q11.1 + 1))).bind fun q13 =>
                            (c_w_tell d (ga_up (ga_up (ga_up q13.2 fW_propertyTypes 0 0 1) fW_propertyKinds 0 0 3) fW_properties 0 0 1) 14 5 0).bind fun q14 =>
                              (c_w_newObject d q14.2 4).bind fun q15 =>
                                (c_w_tell d q15.2 15 2 q15.1).bind fun q16 =>
                                  (c_w_newAction d q16.2 (-1)).bind fun q17 =>
                                    (c_w_tell d q17.2 16 8 q17.1).bind fun q18 =>
                                      (c_w_newAction d q18.2 0).bind fun q19 =>
                                        (c_w_tell d q19.2 17 8 q19.1).bind fun q20 =>
                                          (c_w_newAction d q20.2 0).bind fun q21 =>
                                            (c_w_tell d q21.2 18 8 q21.1).bind fun q22 =>
                                              (c_w_newAction d q22.2 0).bind fun q23 =>
                                                (c_w_tell d q23.2 19 8 q23.1).bind fun q24 =>
                                                  (c_w_newAction d q24.2 (-2)).bind fun q25 =>
                                                    (c_w_tell d q25.2 20 8 q25.1).bind fun q26 =>
                                                      w_clear_336 d q26.2 21 0 0 :=
  ga_blk_eq am_G (am_run d) mt_w_clear 122 74 [(0, 4, 0), (1, 0, v1)] [] σ
set_option maxRecDepth 100000 in
theorem e_w_clear_336 (d : Nat) (σ : ga_S) (v2 v3 v4 : Int) : w_clear_336 d σ v2 v3 v4 = if v4 < 6 then
    (p_idx d σ v2 32 v3).bind fun q34 =>
      (p_sub d q34.2 v2 v3 q34.1).bind fun q35 =>
        (c_w_tell d q35.2 q35.1 9 v4).bind fun q36 =>
          w_clear_336 d q36.2 v2 (w32 (q34.1 + 1)) (w32 (v4 + 1))
  else
    (c_w_firstCommand d σ 22 0 (-1)).bind fun q27 =>
      (c_w_firstCommand d q27.2 23 1 0).bind fun q28 =>
        (c_w_firstCommand d q28.2 24 1 0).bind fun q29 =>
          (c_w_firstCommand d q29.2 25 2 0).bind fun q30 =>
            (c_w_firstCommand d q30.2 26 3 0).bind fun q31 =>
              (c_w_firstCommand d q31.2 27 4 (-2)).bind fun q32 =>
                (c_w_firstCommand d q32.2 28 4 (-2)).bind fun q33 =>
                  some (0, q33.2) :=
  ga_blk_eq am_G (am_run d) mt_w_clear 39 336 [(0, 4, 0), (2, 2, v2), (3, 0, v3), (4, 0, v4)] [] σ
set_option maxRecDepth 100000 in
theorem e_w_clear_82 (d : Nat) (σ : ga_S) (v1 v2 : Int) : w_clear_82 d σ v1 v2 = if v2 < 24 then
    ga_ck v1 40 (ga_nn v1 (ga_ck v2 24 (w_clear_82 d (ga_up σ fW_told v1 v2 0) v1 (w32 (v2 + 1)))))
  else
    w_clear_105 d σ v1 0 :=
  ga_blk_eq am_G (am_run d) mt_w_clear 12 82 [(0, 4, 0), (1, 0, v1), (2, 0, v2)] [] σ
set_option maxRecDepth 100000 in
theorem e_w_clear_105 (d : Nat) (σ : ga_S) (v1 v2 : Int) : w_clear_105 d σ v1 v2 = if v2 < 12 then
    ga_ck v1 40 (ga_nn v1 (ga_ck v2 12 (w_clear_105 d (ga_up σ fW_has v1 v2 0) v1 (w32 (v2 + 1)))))
  else
    w_clear_74 d σ (w32 (v1 + 1)) :=
  ga_blk_eq am_G (am_run d) mt_w_clear 12 105 [(0, 4, 0), (1, 0, v1), (2, 0, v2)] [] σ
set_option maxRecDepth 100000 in
theorem e_w_firstKind (d : Nat) (σ : ga_S) (a1 a2 a3 : Int) : c_w_firstKind (d + 1) σ a1 a2 a3 = (c_w_newKind d σ a3).bind fun q1 =>
    (c_w_tell d q1.2 a1 0 q1.1).bind fun q2 =>
      (c_w_tell d q2.2 a2 11 q1.1).bind fun q3 =>
        some (0, q3.2) :=
  ga_blk_eq am_G (am_run d) mt_w_firstKind 15 0 [(0, 4, 0), (1, 2, a1), (2, 2, a2), (3, 0, a3)] [] σ
set_option maxRecDepth 100000 in
theorem e_w_firstCommand (d : Nat) (σ : ga_S) (a1 a2 a3 : Int) : c_w_firstCommand (d + 1) σ a1 a2 a3 = ga_ck (σ fW_commands 0 0) 20 ((p_len d (ga_up (ga_up σ fW_commands 0 0 (w32 ((σ fW_commands 0 0) + 1))) fW_commandActions 0 (σ fW_commands 0 0) a2) a1).bind fun q1 =>
      if 0 < q1.1 then
        ga_ck (σ fW_commands 0 0) 20 (ga_nn (σ fW_commands 0 0) (ga_ck (σ fW_commands 0 0) 20 ((p_len d (ga_up q1.2 fW_commandFrom (σ fW_commands 0 0) 0 (q1.2 fW_commandUsed 0 0)) a1).bind fun q2 =>
                ga_nn (σ fW_commands 0 0) (w_firstCommand_60 d (ga_up q2.2 fW_commandSize (σ fW_commands 0 0) 0 q2.1) a1 a3 (σ fW_commands 0 0) 0))))
      else
        w_firstCommand_101 d q1.2 a3 (σ fW_commands 0 0) 0) :=
  ga_blk_eq am_G (am_run d) mt_w_firstCommand 36 0 [(0, 4, 0), (1, 2, a1), (2, 0, a2), (3, 0, a3)] [] σ
set_option maxRecDepth 100000 in
theorem e_w_firstCommand_101 (d : Nat) (σ : ga_S) (v3 v4 v5 : Int) : w_firstCommand_101 d σ v3 v4 v5 = ga_ck v4 20 (if v3 = (-1) then
      w_firstCommand_126 d (ga_up σ fW_commandKinds 0 v4 v3) v3 v4 v5 (-1) v4
    else
      w_firstCommand_126 d (ga_up σ fW_commandKinds 0 v4 v3) v3 v4 v5 v5 v4) :=
  ga_blk_eq am_G (am_run d) mt_w_firstCommand 13 101 [(0, 4, 0), (3, 0, v3), (4, 0, v4), (5, 0, v5)] [] σ
set_option maxRecDepth 100000 in
theorem e_w_firstCommand_60 (d : Nat) (σ : ga_S) (v1 v3 v4 v6 : Int) : w_firstCommand_60 d σ v1 v3 v4 v6 = (p_len d σ v1).bind fun q3 =>
    if v6 < q3.1 then
      (p_chr d (ga_up q3.2 fW_commandUsed 0 0 (w32 ((q3.2 fW_commandUsed 0 0) + 1))) v1 v6).bind fun q4 =>
        ga_ck (q3.2 fW_commandUsed 0 0) 3000 (w_firstCommand_60 d (ga_up q4.2 fW_commandLetters 0 (q3.2 fW_commandUsed 0 0) (w8 (w8 q4.1))) v1 v3 v4 (w32 (v6 + 1)))
    else
      w_firstCommand_101 d q3.2 v3 v4 1 :=
  ga_blk_eq am_G (am_run d) mt_w_firstCommand 20 60 [(0, 4, 0), (1, 2, v1), (3, 0, v3), (4, 0, v4), (6, 0, v6)] [] σ
set_option maxRecDepth 100000 in
theorem e_w_firstCommand_126 (d : Nat) (σ : ga_S) (v3 v4 v5 s0 s1 : Int) : w_firstCommand_126 d σ v3 v4 v5 s0 s1 = ga_ck s1 20 (if v3 = (-1) then
      w_firstCommand_147 d (ga_up σ fW_commandSlots 0 s1 s0) v5 v4
    else
      w_firstCommand_147 d (ga_up σ fW_commandSlots 0 s1 s0) (w32 (v5 + 1)) v4) :=
  ga_blk_eq am_G (am_run d) mt_w_firstCommand 10 126 [(0, 4, 0), (3, 0, v3), (4, 0, v4), (5, 0, v5)] [(0, s0), (0, s1), (50, 0)] σ
set_option maxRecDepth 100000 in
theorem e_w_firstCommand_147 (d : Nat) (σ : ga_S) (s0 s1 : Int) : w_firstCommand_147 d σ s0 s1 = ga_ck s1 20 (some (0, (ga_up σ fW_commandWords 0 s1 s0))) :=
  ga_blk_eq am_G (am_run d) mt_w_firstCommand 2 147 [] [(0, s0), (0, s1), (49, 0)] σ
set_option maxRecDepth 100000 in
theorem e_w_newKind (d : Nat) (σ : ga_S) (a1 : Int) : c_w_newKind (d + 1) σ a1 = ga_ck (σ fW_kinds 0 0) 16 (some ((σ fW_kinds 0 0), (ga_up (ga_up σ fW_parents 0 (σ fW_kinds 0 0) a1) fW_kinds 0 0 (w32 ((σ fW_kinds 0 0) + 1))))) :=
  ga_blk_eq am_G (am_run d) mt_w_newKind 14 0 [(0, 4, 0), (1, 0, a1)] [] σ
set_option maxRecDepth 100000 in
theorem e_w_newType (d : Nat) (σ : ga_S) : c_w_newType (d + 1) σ = ga_ck (σ fW_types 0 0) 8 (some ((σ fW_types 0 0), (ga_up (ga_up σ fW_typeValues 0 (σ fW_types 0 0) 0) fW_types 0 0 (w32 ((σ fW_types 0 0) + 1))))) :=
  ga_blk_eq am_G (am_run d) mt_w_newType 14 0 [(0, 4, 0)] [] σ
set_option maxRecDepth 100000 in
theorem e_w_newValue (d : Nat) (σ : ga_S) (a1 : Int) : c_w_newValue (d + 1) σ a1 = ga_ck (σ fW_values 0 0) 64 (ga_ck a1 8 (ga_ck a1 8 (some ((σ fW_values 0 0), (ga_up (ga_up (ga_up σ fW_valueTypes 0 (σ fW_values 0 0) a1) fW_typeValues 0 a1 (w32 ((σ fW_typeValues 0 a1) + 1))) fW_values 0 0 (w32 ((σ fW_values 0 0) + 1))))))) :=
  ga_blk_eq am_G (am_run d) mt_w_newValue 22 0 [(0, 4, 0), (1, 0, a1)] [] σ
set_option maxRecDepth 100000 in
theorem e_w_newObject (d : Nat) (σ : ga_S) (a1 : Int) : c_w_newObject (d + 1) σ a1 = ga_ck (σ fW_objects 0 0) 24 (ga_ck (σ fW_objects 0 0) 24 (ga_ck (σ fW_objects 0 0) 24 (w_newObject_35 d (ga_up (ga_up (ga_up (ga_up σ fW_objects 0 0 (w32 ((σ fW_objects 0 0) + 1))) fW_kindOf 0 (σ fW_objects 0 0) a1) fW_placed 0 (σ fW_objects 0 0) 0) fW_placeAt 0 (σ fW_objects 0 0) (-1)) (σ fW_objects 0 0) 0))) :=
  ga_blk_eq am_G (am_run d) mt_w_newObject 25 0 [(0, 4, 0), (1, 0, a1)] [] σ
set_option maxRecDepth 100000 in
theorem e_w_newObject_35 (d : Nat) (σ : ga_S) (v2 v3 : Int) : w_newObject_35 d σ v2 v3 = if v3 < 6 then
    ga_ck v2 24 (ga_nn v2 (ga_ck v3 6 (w_newObject_35 d (ga_up σ fW_ways v2 v3 (-1)) v2 (w32 (v3 + 1)))))
  else
    some (v2, σ) :=
  ga_blk_eq am_G (am_run d) mt_w_newObject 12 35 [(0, 4, 0), (2, 0, v2), (3, 0, v3)] [] σ
set_option maxRecDepth 100000 in
theorem e_w_newAdjectives (d : Nat) (σ : ga_S) (a1 : Int) : c_w_newAdjectives (d + 1) σ a1 = w_newAdjectives_7 d σ a1 (σ fW_adjectives 0 0) (σ fW_adjectives 0 0) :=
  ga_blk_eq am_G (am_run d) mt_w_newAdjectives 5 0 [(0, 4, 0), (1, 0, a1)] [] σ
set_option maxRecDepth 100000 in
theorem e_w_newAdjectives_7 (d : Nat) (σ : ga_S) (v1 v2 v3 : Int) : w_newAdjectives_7 d σ v1 v2 v3 = if v3 < (w32 (v2 + 2)) then
    ga_ck v3 24 (ga_ck v3 24 (w_newAdjectives_7 d (ga_up (ga_up σ fW_adjectiveKinds 0 v3 v1) fW_contraries 0 v3 (w32 ((w32 ((w32 (2 * v2)) + 1)) - v3))) v1 v2 (w32 (v3 + 1))))
  else
    some (v2, (ga_up σ fW_adjectives 0 0 (w32 ((σ fW_adjectives 0 0) + 2)))) :=
  ga_blk_eq am_G (am_run d) mt_w_newAdjectives 23 7 [(0, 4, 0), (1, 0, v1), (2, 0, v2), (3, 0, v3)] [] σ
set_option maxRecDepth 100000 in
theorem e_w_newAction (d : Nat) (σ : ga_S) (a1 : Int) : c_w_newAction (d + 1) σ a1 = ga_ck (σ fW_actions 0 0) 12 (some ((σ fW_actions 0 0), (ga_up (ga_up σ fW_actionKinds 0 (σ fW_actions 0 0) a1) fW_actions 0 0 (w32 ((σ fW_actions 0 0) + 1))))) :=
  ga_blk_eq am_G (am_run d) mt_w_newAction 14 0 [(0, 4, 0), (1, 0, a1)] [] σ
set_option maxRecDepth 100000 in
theorem e_w_newRelation (d : Nat) (σ : ga_S) (a1 a2 a3 a4 : Int) : c_w_newRelation (d + 1) σ a1 a2 a3 a4 = ga_ck (σ fW_relations 0 0) 6 (ga_ck (σ fW_relations 0 0) 6 (ga_ck (σ fW_relations 0 0) 6 (ga_01 a3 (ga_ck (σ fW_relations 0 0) 6 (ga_01 a4 (w_newRelation_49 d (ga_up (ga_up (ga_up (ga_up (ga_up σ fW_relations 0 0 (w32 ((σ fW_relations 0 0) + 1))) fW_relationA 0 (σ fW_relations 0 0) a1) fW_relationB 0 (σ fW_relations 0 0) a2) fW_oneA 0 (σ fW_relations 0 0) a3) fW_oneB 0 (σ fW_relations 0 0) a4) (σ fW_relations 0 0) 0)))))) :=
  ga_blk_eq am_G (am_run d) mt_w_newRelation 30 0 [(0, 4, 0), (1, 0, a1), (2, 0, a2), (3, 0, a3), (4, 0, a4)] [] σ
set_option maxRecDepth 100000 in
theorem e_w_newRelation_49 (d : Nat) (σ : ga_S) (v5 v6 : Int) : w_newRelation_49 d σ v5 v6 = if v6 < 576 then
    ga_ck v5 6 (ga_nn v5 (ga_ck v6 576 (w_newRelation_49 d (ga_up σ fW_related v5 v6 0) v5 (w32 (v6 + 1)))))
  else
    some (v5, σ) :=
  ga_blk_eq am_G (am_run d) mt_w_newRelation 12 49 [(0, 4, 0), (5, 0, v5), (6, 0, v6)] [] σ
set_option maxRecDepth 100000 in
theorem e_w_isBelow (d : Nat) (σ : ga_S) (a1 a2 : Int) : c_w_isBelow (d + 1) σ a1 a2 = w_isBelow_2 d σ a2 a1 :=
  ga_blk_eq am_G (am_run d) mt_w_isBelow 2 0 [(0, 4, 0), (1, 0, a1), (2, 0, a2)] [] σ
set_option maxRecDepth 100000 in
theorem e_w_isBelow_2 (d : Nat) (σ : ga_S) (v2 v3 : Int) : w_isBelow_2 d σ v2 v3 = if v3 = (-1) then
    w_isBelow_22 d σ v2 v3
  else
    if v3 = v2 then
      w_isBelow_22 d σ v2 v3
    else
      ga_ck v3 16 (w_isBelow_2 d σ v2 (σ fW_parents 0 v3)) :=
  ga_blk_eq am_G (am_run d) mt_w_isBelow 12 2 [(0, 4, 0), (2, 0, v2), (3, 0, v3)] [] σ
set_option maxRecDepth 100000 in
theorem e_w_isBelow_22 (d : Nat) (σ : ga_S) (v2 v3 : Int) : w_isBelow_22 d σ v2 v3 = if v3 = v2 then
    if v2 = (-1) then
      some (0, σ)
    else
      some (1, σ)
  else
    some (0, σ) :=
  ga_blk_eq am_G (am_run d) mt_w_isBelow 9 22 [(2, 0, v2), (3, 0, v3)] [] σ
set_option maxRecDepth 100000 in
theorem e_w_depth (d : Nat) (σ : ga_S) (a1 : Int) : c_w_depth (d + 1) σ a1 = w_depth_4 d σ 0 a1 :=
  ga_blk_eq am_G (am_run d) mt_w_depth 4 0 [(0, 4, 0), (1, 0, a1)] [] σ
set_option maxRecDepth 100000 in
theorem e_w_depth_4 (d : Nat) (σ : ga_S) (v2 v3 : Int) : w_depth_4 d σ v2 v3 = if v3 = (-1) then
    some (v2, σ)
  else
    ga_ck v3 16 (w_depth_4 d σ (w32 (v2 + 1)) (σ fW_parents 0 v3)) :=
  ga_blk_eq am_G (am_run d) mt_w_depth 10 4 [(0, 4, 0), (2, 0, v2), (3, 0, v3)] [] σ
set_option maxRecDepth 100000 in
theorem e_w_isKind (d : Nat) (σ : ga_S) (a1 a2 : Int) : c_w_isKind (d + 1) σ a1 a2 = ga_ck a1 24 ((c_w_isBelow d σ (σ fW_kindOf 0 a1) a2).bind fun q1 =>
      ga_01 q1.1 (some (q1.1, q1.2))) :=
  ga_blk_eq am_G (am_run d) mt_w_isKind 8 0 [(0, 4, 0), (1, 0, a1), (2, 0, a2)] [] σ
set_option maxRecDepth 100000 in
theorem e_w_owns (d : Nat) (σ : ga_S) (a1 a2 : Int) : c_w_owns (d + 1) σ a1 a2 = w_owns_5 d σ a2 0 a1 :=
  ga_blk_eq am_G (am_run d) mt_w_owns 4 0 [(0, 4, 0), (1, 0, a1), (2, 0, a2)] [] σ
set_option maxRecDepth 100000 in
theorem e_w_owns_5 (d : Nat) (σ : ga_S) (v2 v3 v4 : Int) : w_owns_5 d σ v2 v3 v4 = if v4 = (-1) then
    ga_01 v3 (some (v3, σ))
  else
    ga_ck v2 12 (if (ga_iand (ga_ishr (σ fW_propertyKinds 0 v2) v4) 1) = 1 then
        w_owns_32 d σ v2 v4 1 v3
      else
        w_owns_32 d σ v2 v4 0 v3) :=
  ga_blk_eq am_G (am_run d) mt_w_owns 16 5 [(0, 4, 0), (2, 0, v2), (3, 0, v3), (4, 0, v4)] [] σ
set_option maxRecDepth 100000 in
theorem e_w_owns_32 (d : Nat) (σ : ga_S) (v2 v4 s0 s1 : Int) : w_owns_32 d σ v2 v4 s0 s1 = ga_ck v4 16 (w_owns_5 d σ v2 (ga_ior s1 s0) (σ fW_parents 0 v4)) :=
  ga_blk_eq am_G (am_run d) mt_w_owns 8 32 [(0, 4, 0), (2, 0, v2), (4, 0, v4)] [(0, s0), (0, s1)] σ
set_option maxRecDepth 100000 in
theorem e_w_propertyOf (d : Nat) (σ : ga_S) (a1 a2 : Int) : c_w_propertyOf (d + 1) σ a1 a2 = w_propertyOf_5 d σ a1 a2 (-1) 0 :=
  ga_blk_eq am_G (am_run d) mt_w_propertyOf 4 0 [(0, 4, 0), (1, 0, a1), (2, 0, a2)] [] σ
set_option maxRecDepth 100000 in
theorem e_w_propertyOf_5 (d : Nat) (σ : ga_S) (v1 v2 v3 v4 : Int) : w_propertyOf_5 d σ v1 v2 v3 v4 = if v4 < (σ fW_properties 0 0) then
    ga_ck v4 12 (if (σ fW_propertyTypes 0 v4) = v2 then
        (c_w_owns d σ v1 v4).bind fun q1 =>
          if q1.1 = 0 then
            w_propertyOf_48 d q1.2 v1 v2 v3 v4
          else
            if v3 = (-1) then
              w_propertyOf_47 d q1.2 v1 v2 v4 v4
            else
              w_propertyOf_47 d q1.2 v1 v2 v4 (-2)
      else
        w_propertyOf_48 d σ v1 v2 v3 v4)
  else
    some (v3, σ) :=
  ga_blk_eq am_G (am_run d) mt_w_propertyOf 20 5 [(0, 4, 0), (1, 0, v1), (2, 0, v2), (3, 0, v3), (4, 0, v4)] [] σ
set_option maxRecDepth 100000 in
theorem e_w_propertyOf_48 (d : Nat) (σ : ga_S) (v1 v2 v3 v4 : Int) : w_propertyOf_48 d σ v1 v2 v3 v4 = w_propertyOf_5 d σ v1 v2 v3 (w32 (v4 + 1)) :=
  ga_blk_eq am_G (am_run d) mt_w_propertyOf 2 48 [(0, 4, 0), (1, 0, v1), (2, 0, v2), (3, 0, v3), (4, 0, v4)] [] σ
set_option maxRecDepth 100000 in
theorem e_w_propertyOf_47 (d : Nat) (σ : ga_S) (v1 v2 v4 s0 : Int) : w_propertyOf_47 d σ v1 v2 v4 s0 = w_propertyOf_48 d σ v1 v2 s0 v4 :=
  ga_blk_eq am_G (am_run d) mt_w_propertyOf 1 47 [(0, 4, 0), (1, 0, v1), (2, 0, v2), (4, 0, v4)] [(0, s0)] σ
set_option maxRecDepth 100000 in
theorem e_w_toldAt (d : Nat) (σ : ga_S) (a1 a2 : Int) : c_w_toldAt (d + 1) σ a1 a2 = ga_ck a2 24 (ga_ck a1 40 (ga_nn a1 (ga_ck a2 24 (if (σ fW_told a1 a2) = 0 then
            ga_ck a1 40 (ga_nn a1 (ga_ck (σ fW_contraries 0 a2) 24 (if (σ fW_told a1 (σ fW_contraries 0 a2)) = 0 then
                    ga_ck a1 24 (w_toldAt_39 d σ a2 (σ fW_contraries 0 a2) (σ fW_kindOf 0 a1))
                  else
                    some (a1, σ))))
          else
            some (a1, σ))))) :=
  ga_blk_eq am_G (am_run d) mt_w_toldAt 24 0 [(0, 4, 0), (1, 0, a1), (2, 0, a2)] [] σ
set_option maxRecDepth 100000 in
theorem e_w_toldAt_39 (d : Nat) (σ : ga_S) (v2 v3 v4 : Int) : w_toldAt_39 d σ v2 v3 v4 = if v4 = (-1) then
    some ((-1), σ)
  else
    ga_ck (w32 (24 + v4)) 40 (ga_nn (w32 (24 + v4)) (ga_ck v2 24 (if (σ fW_told (w32 (24 + v4)) v2) = 0 then
            ga_ck (w32 (24 + v4)) 40 (ga_nn (w32 (24 + v4)) (ga_ck v3 24 (if (σ fW_told (w32 (24 + v4)) v3) = 0 then
                    ga_ck v4 16 (w_toldAt_39 d σ v2 v3 (σ fW_parents 0 v4))
                  else
                    some ((w32 (24 + v4)), σ))))
          else
            some ((w32 (24 + v4)), σ)))) :=
  ga_blk_eq am_G (am_run d) mt_w_toldAt 27 39 [(0, 4, 0), (2, 0, v2), (3, 0, v3), (4, 0, v4)] [] σ
set_option maxRecDepth 100000 in
theorem e_w_isTold (d : Nat) (σ : ga_S) (a1 a2 : Int) : c_w_isTold (d + 1) σ a1 a2 = (c_w_toldAt d σ a1 a2).bind fun q1 =>
    if q1.1 = (-1) then
      ga_ck a2 24 (if (q1.2 fW_contraries 0 a2) < a2 then
          some (1, q1.2)
        else
          some (0, q1.2))
    else
      ga_ck q1.1 40 (ga_nn q1.1 (ga_ck a2 24 (ga_01 (q1.2 fW_told q1.1 a2) (some ((q1.2 fW_told q1.1 a2), q1.2))))) :=
  ga_blk_eq am_G (am_run d) mt_w_isTold 17 0 [(0, 4, 0), (1, 0, a1), (2, 0, a2)] [] σ
set_option maxRecDepth 100000 in
theorem e_w_hasAt (d : Nat) (σ : ga_S) (a1 a2 : Int) : c_w_hasAt (d + 1) σ a1 a2 = ga_ck a1 40 (ga_nn a1 (ga_ck a2 12 (if (σ fW_has a1 a2) = 0 then
          ga_ck a1 24 (w_hasAt_20 d σ a2 (σ fW_kindOf 0 a1))
        else
          some (a1, σ)))) :=
  ga_blk_eq am_G (am_run d) mt_w_hasAt 12 0 [(0, 4, 0), (1, 0, a1), (2, 0, a2)] [] σ
set_option maxRecDepth 100000 in
theorem e_w_hasAt_20 (d : Nat) (σ : ga_S) (v2 v3 : Int) : w_hasAt_20 d σ v2 v3 = if v3 = (-1) then
    some ((-1), σ)
  else
    ga_ck (w32 (24 + v3)) 40 (ga_nn (w32 (24 + v3)) (ga_ck v2 12 (if (σ fW_has (w32 (24 + v3)) v2) = 0 then
            ga_ck v3 16 (w_hasAt_20 d σ v2 (σ fW_parents 0 v3))
          else
            some ((w32 (24 + v3)), σ)))) :=
  ga_blk_eq am_G (am_run d) mt_w_hasAt 18 20 [(0, 4, 0), (2, 0, v2), (3, 0, v3)] [] σ
set_option maxRecDepth 100000 in
theorem e_w_number (d : Nat) (σ : ga_S) (a1 a2 : Int) : c_w_number (d + 1) σ a1 a2 = (c_w_hasAt d σ a1 a2).bind fun q1 =>
    if q1.1 = (-1) then
      ga_ck a2 12 (if (q1.2 fW_propertyTypes 0 a2) = 0 then
          some (0, q1.2)
        else
          (c_w_firstValue d q1.2 (q1.2 fW_propertyTypes 0 a2)).bind fun q2 =>
            some (q2.1, q2.2))
    else
      ga_ck q1.1 40 (ga_nn q1.1 (ga_ck a2 12 (some ((q1.2 fW_numbers q1.1 a2), q1.2)))) :=
  ga_blk_eq am_G (am_run d) mt_w_number 19 0 [(0, 4, 0), (1, 0, a1), (2, 0, a2)] [] σ
set_option maxRecDepth 100000 in
theorem e_w_firstValue (d : Nat) (σ : ga_S) (a1 : Int) : c_w_firstValue (d + 1) σ a1 = w_firstValue_2 d σ a1 0 :=
  ga_blk_eq am_G (am_run d) mt_w_firstValue 2 0 [(0, 4, 0), (1, 0, a1)] [] σ
set_option maxRecDepth 100000 in
theorem e_w_firstValue_2 (d : Nat) (σ : ga_S) (v1 v2 : Int) : w_firstValue_2 d σ v1 v2 = if v2 < (σ fW_values 0 0) then
    ga_ck v2 64 (if (σ fW_valueTypes 0 v2) = v1 then
        some (v2, σ)
      else
        w_firstValue_2 d σ v1 (w32 (v2 + 1)))
  else
    some ((-1), σ) :=
  ga_blk_eq am_G (am_run d) mt_w_firstValue 12 2 [(0, 4, 0), (1, 0, v1), (2, 0, v2)] [] σ
set_option maxRecDepth 100000 in
theorem e_w_leads (d : Nat) (σ : ga_S) (a1 a2 : Int) : c_w_leads (d + 1) σ a1 a2 = ga_ck a1 24 (ga_nn a1 (ga_ck a2 6 (if (σ fW_ways a1 a2) = (-1) then
          w_leads_23 d σ a1 a2 0
        else
          ga_ck a1 24 (ga_nn a1 (ga_ck a2 6 (some ((σ fW_ways a1 a2), σ))))))) :=
  ga_blk_eq am_G (am_run d) mt_w_leads 15 0 [(0, 4, 0), (1, 0, a1), (2, 0, a2)] [] σ
set_option maxRecDepth 100000 in
theorem e_w_leads_23 (d : Nat) (σ : ga_S) (v1 v2 v3 : Int) : w_leads_23 d σ v1 v2 v3 = if v3 < (σ fW_toldWays 0 0) then
    ga_ck v3 144 (ga_ck (σ fW_wayFrom 0 v3) 24 (ga_ck v3 144 (ga_nn (σ fW_wayFrom 0 v3) (ga_ck (σ fW_wayBy 0 v3) 6 (if (σ fW_ways (σ fW_wayFrom 0 v3) (σ fW_wayBy 0 v3)) = v1 then
                ga_ck v3 144 (if (ga_ixor (σ fW_wayBy 0 v3) 1) = v2 then
                    ga_ck v3 144 (some ((σ fW_wayFrom 0 v3), σ))
                  else
                    w_leads_72 d σ v1 v2 v3)
              else
                w_leads_72 d σ v1 v2 v3)))))
  else
    some ((-1), σ) :=
  ga_blk_eq am_G (am_run d) mt_w_leads 31 23 [(0, 4, 0), (1, 0, v1), (2, 0, v2), (3, 0, v3)] [] σ
set_option maxRecDepth 100000 in
theorem e_w_leads_72 (d : Nat) (σ : ga_S) (v1 v2 v3 : Int) : w_leads_72 d σ v1 v2 v3 = w_leads_23 d σ v1 v2 (w32 (v3 + 1)) :=
  ga_blk_eq am_G (am_run d) mt_w_leads 2 72 [(0, 4, 0), (1, 0, v1), (2, 0, v2), (3, 0, v3)] [] σ
set_option maxRecDepth 100000 in
theorem e_w_isWithin (d : Nat) (σ : ga_S) (a1 a2 : Int) : c_w_isWithin (d + 1) σ a1 a2 = w_isWithin_2 d σ a2 a1 :=
  ga_blk_eq am_G (am_run d) mt_w_isWithin 2 0 [(0, 4, 0), (1, 0, a1), (2, 0, a2)] [] σ
set_option maxRecDepth 100000 in
theorem e_w_isWithin_2 (d : Nat) (σ : ga_S) (v2 v3 : Int) : w_isWithin_2 d σ v2 v3 = if v3 = (-1) then
    w_isWithin_22 d σ v2 v3
  else
    if v3 = v2 then
      w_isWithin_22 d σ v2 v3
    else
      ga_ck v3 24 (w_isWithin_2 d σ v2 (σ fW_placeAt 0 v3)) :=
  ga_blk_eq am_G (am_run d) mt_w_isWithin 12 2 [(0, 4, 0), (2, 0, v2), (3, 0, v3)] [] σ
set_option maxRecDepth 100000 in
theorem e_w_isWithin_22 (d : Nat) (σ : ga_S) (v2 v3 : Int) : w_isWithin_22 d σ v2 v3 = if v3 = v2 then
    some (1, σ)
  else
    some (0, σ) :=
  ga_blk_eq am_G (am_run d) mt_w_isWithin 6 22 [(2, 0, v2), (3, 0, v3)] [] σ
set_option maxRecDepth 100000 in
theorem e_w_put (d : Nat) (σ : ga_S) (a1 a2 a3 : Int) : c_w_put (d + 1) σ a1 a2 a3 = ga_ck a1 24 (ga_ck a1 24 (some (0, (ga_up (ga_up σ fW_placed 0 a1 a2) fW_placeAt 0 a1 a3)))) :=
  ga_blk_eq am_G (am_run d) mt_w_put 11 0 [(0, 4, 0), (1, 0, a1), (2, 0, a2), (3, 0, a3)] [] σ
set_option maxRecDepth 100000 in
theorem e_w_placeSort (d : Nat) (σ : ga_S) (a1 : Int) : c_w_placeSort (d + 1) σ a1 = (c_w_isKind d σ a1 1).bind fun q1 =>
    if q1.1 = 0 then
      (c_w_isKind d q1.2 a1 2).bind fun q2 =>
        if q2.1 = 0 then
          (c_w_isKind d q2.2 a1 3).bind fun q3 =>
            if q3.1 = 0 then
              (c_w_isKind d q3.2 a1 4).bind fun q4 =>
                if q4.1 = 0 then
                  some (3, q4.2)
                else
                  some (4, q4.2)
            else
              some (2, q3.2)
        else
          w_placeSort_18 d q2.2
    else
      w_placeSort_18 d q1.2 :=
  ga_blk_eq am_G (am_run d) mt_w_placeSort 23 0 [(0, 4, 0), (1, 0, a1)] [] σ
set_option maxRecDepth 100000 in
theorem e_w_placeSort_18 (d : Nat) (σ : ga_S) : w_placeSort_18 d σ = some (1, σ) :=
  ga_blk_eq am_G (am_run d) mt_w_placeSort 3 18 [] [] σ
set_option maxRecDepth 100000 in
theorem e_w_isBy (d : Nat) (σ : ga_S) (a1 a2 : Int) : c_w_isBy (d + 1) σ a1 a2 = ga_ck a1 24 (if (σ fW_placeAt 0 a1) = a2 then
      ga_ck a1 24 (if (σ fW_placed 0 a1) = 4 then
          w_isBy_30 d σ
        else
          ga_ck a1 24 (if (σ fW_placed 0 a1) = 5 then
              w_isBy_30 d σ
            else
              some (0, σ)))
    else
      some (0, σ)) :=
  ga_blk_eq am_G (am_run d) mt_w_isBy 20 0 [(0, 4, 0), (1, 0, a1), (2, 0, a2)] [] σ
set_option maxRecDepth 100000 in
theorem e_w_isBy_30 (d : Nat) (σ : ga_S) : w_isBy_30 d σ = some (1, σ) :=
  ga_blk_eq am_G (am_run d) mt_w_isBy 3 30 [] [] σ
set_option maxRecDepth 100000 in
theorem e_w_relate (d : Nat) (σ : ga_S) (a1 a2 a3 : Int) : c_w_relate (d + 1) σ a1 a2 a3 = w_relate_3 d σ a1 a2 a3 0 :=
  ga_blk_eq am_G (am_run d) mt_w_relate 2 0 [(0, 4, 0), (1, 0, a1), (2, 0, a2), (3, 0, a3)] [] σ
set_option maxRecDepth 100000 in
theorem e_w_relate_3 (d : Nat) (σ : ga_S) (v1 v2 v3 v4 : Int) : w_relate_3 d σ v1 v2 v3 v4 = if v4 < (σ fW_objects 0 0) then
    ga_ck v1 6 (if (σ fW_oneA 0 v1) = 0 then
        w_relate_36 d σ v1 v2 v3 v4
      else
        ga_ck v1 6 (ga_nn v1 (ga_ck (w32 ((w32 (24 * v4)) + v3)) 576 (w_relate_36 d (ga_up σ fW_related v1 (w32 ((w32 (24 * v4)) + v3)) 0) v1 v2 v3 v4))))
  else
    ga_ck v1 6 (ga_nn v1 (ga_ck (w32 ((w32 (24 * v2)) + v3)) 576 (some (0, (ga_up σ fW_related v1 (w32 ((w32 (24 * v2)) + v3)) 1))))) :=
  ga_blk_eq am_G (am_run d) mt_w_relate 20 3 [(0, 4, 0), (1, 0, v1), (2, 0, v2), (3, 0, v3), (4, 0, v4)] [] σ
set_option maxRecDepth 100000 in
theorem e_w_relate_36 (d : Nat) (σ : ga_S) (v1 v2 v3 v4 : Int) : w_relate_36 d σ v1 v2 v3 v4 = ga_ck v1 6 (if (σ fW_oneB 0 v1) = 0 then
      w_relate_60 d σ v1 v2 v3 v4
    else
      ga_ck v1 6 (ga_nn v1 (ga_ck (w32 ((w32 (24 * v2)) + v4)) 576 (w_relate_60 d (ga_up σ fW_related v1 (w32 ((w32 (24 * v2)) + v4)) 0) v1 v2 v3 v4)))) :=
  ga_blk_eq am_G (am_run d) mt_w_relate 16 36 [(0, 4, 0), (1, 0, v1), (2, 0, v2), (3, 0, v3), (4, 0, v4)] [] σ
set_option maxRecDepth 100000 in
theorem e_w_relate_60 (d : Nat) (σ : ga_S) (v1 v2 v3 v4 : Int) : w_relate_60 d σ v1 v2 v3 v4 = w_relate_3 d σ v1 v2 v3 (w32 (v4 + 1)) :=
  ga_blk_eq am_G (am_run d) mt_w_relate 2 60 [(0, 4, 0), (1, 0, v1), (2, 0, v2), (3, 0, v3), (4, 0, v4)] [] σ
set_option maxRecDepth 100000 in
theorem e_d_clear (d : Nat) (σ : ga_S) : c_d_clear (d + 1) σ = some (0, (ga_up (ga_up σ fD_used 0 0 0) fD_count 0 0 0)) :=
  ga_blk_eq am_G (am_run d) mt_d_clear 7 0 [(0, 5, 0)] [] σ
set_option maxRecDepth 100000 in
theorem e_d_spellS (d : Nat) (σ : ga_S) (a1 : Int) : c_d_spellS (d + 1) σ a1 = (p_len d σ a1).bind fun q1 =>
    d_spellS_10 d (ga_up q1.2 fD_size 0 0 q1.1) a1 0 :=
  ga_blk_eq am_G (am_run d) mt_d_spellS 6 0 [(0, 5, 0), (1, 2, a1)] [] σ
set_option maxRecDepth 100000 in
theorem e_d_spellS_10 (d : Nat) (σ : ga_S) (v1 v2 : Int) : d_spellS_10 d σ v1 v2 = if v2 < (σ fD_size 0 0) then
    (p_chr d σ v1 v2).bind fun q2 =>
      ga_ck v2 1000 (d_spellS_10 d (ga_up q2.2 fD_spelled 0 v2 (w8 (w8 q2.1))) v1 (w32 (v2 + 1)))
  else
    some (0, σ) :=
  ga_blk_eq am_G (am_run d) mt_d_spellS 14 10 [(0, 5, 0), (1, 2, v1), (2, 0, v2)] [] σ
set_option maxRecDepth 100000 in
theorem e_d_spellT (d : Nat) (σ : ga_S) (a1 a2 a3 : Int) : c_d_spellT (d + 1) σ a1 a2 a3 = d_spellT_8 d (ga_up σ fD_size 0 0 0) a1 a2 a3 a2 :=
  ga_blk_eq am_G (am_run d) mt_d_spellT 5 0 [(0, 5, 0), (1, 6, a1), (2, 0, a2), (3, 0, a3)] [] σ
set_option maxRecDepth 100000 in
theorem e_d_spellT_8 (d : Nat) (σ : ga_S) (v1 v2 v3 v4 : Int) : d_spellT_8 d σ v1 v2 v3 v4 = if v4 < v3 then
    if v2 < v4 then
      (c_d_put d σ 32).bind fun q1 =>
        d_spellT_26 d q1.2 v1 v2 v3 v4
    else
      d_spellT_26 d σ v1 v2 v3 v4
  else
    some (0, σ) :=
  ga_blk_eq am_G (am_run d) mt_d_spellT 9 8 [(0, 5, 0), (1, 6, v1), (2, 0, v2), (3, 0, v3), (4, 0, v4)] [] σ
set_option maxRecDepth 100000 in
theorem e_d_spellT_26 (d : Nat) (σ : ga_S) (v1 v2 v3 v4 : Int) : d_spellT_26 d σ v1 v2 v3 v4 = d_spellT_29 d σ v1 v2 v3 v4 0 :=
  ga_blk_eq am_G (am_run d) mt_d_spellT 2 26 [(0, 5, 0), (1, 6, v1), (2, 0, v2), (3, 0, v3), (4, 0, v4)] [] σ
set_option maxRecDepth 100000 in
theorem e_d_spellT_29 (d : Nat) (σ : ga_S) (v1 v2 v3 v4 v5 : Int) : d_spellT_29 d σ v1 v2 v3 v4 v5 = ga_nn v1 (ga_nn v1 (ga_ck v4 5002 (if v5 < (σ fT_lengths v1 v4) then
          ga_nn v1 (ga_nn v1 (ga_ck v4 5002 (ga_nn v1 ((c_t_low d σ v1 (w32 ((σ fT_places v1 v4) + v5))).bind fun q2 =>
                    (c_d_put d q2.2 q2.1).bind fun q3 =>
                      d_spellT_29 d q3.2 v1 v2 v3 v4 (w32 (v5 + 1))))))
        else
          d_spellT_8 d σ v1 v2 v3 (w32 (v4 + 1))))) :=
  ga_blk_eq am_G (am_run d) mt_d_spellT 18 29 [(0, 5, 0), (1, 6, v1), (2, 0, v2), (3, 0, v3), (4, 0, v4), (5, 0, v5)] [] σ
set_option maxRecDepth 100000 in
theorem e_d_put (d : Nat) (σ : ga_S) (a1 : Int) : c_d_put (d + 1) σ a1 = if (σ fD_size 0 0) < 1000 then
    ga_ck (σ fD_size 0 0) 1000 (some (0, (ga_up (ga_up σ fD_size 0 0 (w32 ((σ fD_size 0 0) + 1))) fD_spelled 0 (σ fD_size 0 0) (w8 (w8 a1)))))
  else
    some (0, σ) :=
  ga_blk_eq am_G (am_run d) mt_d_put 19 0 [(0, 5, 0), (1, 0, a1)] [] σ
set_option maxRecDepth 100000 in
theorem e_d_withS (d : Nat) (σ : ga_S) : c_d_withS (d + 1) σ = (c_d_put d σ 115).bind fun q1 =>
    some (0, q1.2) :=
  ga_blk_eq am_G (am_run d) mt_d_withS 4 0 [(0, 5, 0)] [] σ
set_option maxRecDepth 100000 in
theorem e_d_is (d : Nat) (σ : ga_S) (a1 : Int) : c_d_is (d + 1) σ a1 = ga_ck a1 640 (if (σ fD_sizes 0 a1) = (σ fD_size 0 0) then
      d_is_18 d σ a1 1
    else
      d_is_18 d σ a1 0) :=
  ga_blk_eq am_G (am_run d) mt_d_is 9 0 [(0, 5, 0), (1, 0, a1)] [] σ
set_option maxRecDepth 100000 in
theorem e_d_is_18 (d : Nat) (σ : ga_S) (v1 s0 : Int) : d_is_18 d σ v1 s0 = d_is_21 d σ v1 s0 0 :=
  ga_blk_eq am_G (am_run d) mt_d_is 3 18 [(0, 5, 0), (1, 0, v1)] [(0, s0)] σ
set_option maxRecDepth 100000 in
theorem e_d_is_21 (d : Nat) (σ : ga_S) (v1 v2 v3 : Int) : d_is_21 d σ v1 v2 v3 = if v3 < (σ fD_size 0 0) then
    if v2 = 0 then
      ga_01 v2 (some (v2, σ))
    else
      ga_ck v1 640 (ga_ck (w32 ((σ fD_froms 0 v1) + v3)) 24000 (ga_ck v3 1000 (if (σ fD_letters 0 (w32 ((σ fD_froms 0 v1) + v3))) = (σ fD_spelled 0 v3) then
              d_is_60 d σ v1 v3 1
            else
              d_is_60 d σ v1 v3 0)))
  else
    ga_01 v2 (some (v2, σ)) :=
  ga_blk_eq am_G (am_run d) mt_d_is 22 21 [(0, 5, 0), (1, 0, v1), (2, 0, v2), (3, 0, v3)] [] σ
set_option maxRecDepth 100000 in
theorem e_d_is_60 (d : Nat) (σ : ga_S) (v1 v3 s0 : Int) : d_is_60 d σ v1 v3 s0 = d_is_21 d σ v1 s0 (w32 (v3 + 1)) :=
  ga_blk_eq am_G (am_run d) mt_d_is 3 60 [(0, 5, 0), (1, 0, v1), (3, 0, v3)] [(0, s0)] σ
set_option maxRecDepth 100000 in
theorem e_d_find (d : Nat) (σ : ga_S) : c_d_find (d + 1) σ = d_find_2 d σ 0 :=
  ga_blk_eq am_G (am_run d) mt_d_find 2 0 [(0, 5, 0)] [] σ
set_option maxRecDepth 100000 in
theorem e_d_find_2 (d : Nat) (σ : ga_S) (v1 : Int) : d_find_2 d σ v1 = if v1 < (σ fD_count 0 0) then
    ga_ck v1 640 (if (σ fD_sorts 0 v1) = (-1) then
        d_find_30 d σ v1
      else
        (c_d_is d σ v1).bind fun q1 =>
          if q1.1 = 0 then
            d_find_30 d q1.2 v1
          else
            some (v1, q1.2))
  else
    some ((-1), σ) :=
  ga_blk_eq am_G (am_run d) mt_d_find 16 2 [(0, 5, 0), (1, 0, v1)] [] σ
set_option maxRecDepth 100000 in
theorem e_d_find_30 (d : Nat) (σ : ga_S) (v1 : Int) : d_find_30 d σ v1 = d_find_2 d σ (w32 (v1 + 1)) :=
  ga_blk_eq am_G (am_run d) mt_d_find 2 30 [(0, 5, 0), (1, 0, v1)] [] σ
set_option maxRecDepth 100000 in
theorem e_d_sort (d : Nat) (σ : ga_S) : c_d_sort (d + 1) σ = (c_d_find d σ).bind fun q1 =>
    if q1.1 = (-1) then
      some ((-1), q1.2)
    else
      ga_ck q1.1 640 (some ((q1.2 fD_sorts 0 q1.1), q1.2)) :=
  ga_blk_eq am_G (am_run d) mt_d_sort 11 0 [(0, 5, 0)] [] σ
set_option maxRecDepth 100000 in
theorem e_d_of (d : Nat) (σ : ga_S) (a1 : Int) : c_d_of (d + 1) σ a1 = (c_d_find d σ).bind fun q1 =>
    if q1.1 = (-1) then
      d_of_20 d q1.2
    else
      ga_ck q1.1 640 (if (q1.2 fD_sorts 0 q1.1) = a1 then
          ga_ck q1.1 640 (some ((q1.2 fD_numbers 0 q1.1), q1.2))
        else
          d_of_20 d q1.2) :=
  ga_blk_eq am_G (am_run d) mt_d_of 17 0 [(0, 5, 0), (1, 0, a1)] [] σ
set_option maxRecDepth 100000 in
theorem e_d_of_20 (d : Nat) (σ : ga_S) : d_of_20 d σ = some ((-1), σ) :=
  ga_blk_eq am_G (am_run d) mt_d_of 3 20 [] [] σ
set_option maxRecDepth 100000 in
theorem e_d_tell (d : Nat) (σ : ga_S) (a1 a2 : Int) : c_d_tell (d + 1) σ a1 a2 = (p_cpy_59_54 d σ 0 (σ fD_used 0 0) (σ fD_size 0 0)).bind fun q1 =>
    ga_ck (q1.2 fD_count 0 0) 640 (ga_ck (q1.2 fD_count 0 0) 640 (ga_ck (q1.2 fD_count 0 0) 640 (ga_ck (q1.2 fD_count 0 0) 640 (some (0, (ga_up (ga_up (ga_up (ga_up (ga_up (ga_up q1.2 fD_froms 0 (q1.2 fD_count 0 0) (q1.2 fD_used 0 0)) fD_sizes 0 (q1.2 fD_count 0 0) (q1.2 fD_size 0 0)) fD_sorts 0 (q1.2 fD_count 0 0) a1) fD_numbers 0 (q1.2 fD_count 0 0) a2) fD_used 0 0 (w32 ((q1.2 fD_used 0 0) + (q1.2 fD_size 0 0)))) fD_count 0 0 (w32 ((q1.2 fD_count 0 0) + 1)))))))) :=
  ga_blk_eq am_G (am_run d) mt_d_tell 50 0 [(0, 5, 0), (1, 0, a1), (2, 0, a2)] [] σ

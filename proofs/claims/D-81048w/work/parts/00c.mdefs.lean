/-! the functions of the twin, as read off its bytecode -/
noncomputable def m5_type_l42 (v1 : Int) : Nat → Int → Mu → Option (Mu)
  | 0, _, _ => none
  | n + 1, v4, u =>
    if (w32 v4) < 0 then
      some u
    else
      (mast u 1 4000 (u.1 2) (w8 (w8 (ushr64 v1 (8 * v4))))).bind fun u1 =>
      (some (ms u1 2 ((u1.1 2) + 1))).bind fun u2 =>
      m5_type_l42 v1 n (v4 + (-1)) u2
noncomputable def m5_type_b22 (v1 : Int) (v3 : Int) (u : Mu) : Option (Int × Mu) :=
  if (w32 ((u.1 2) + v3)) ≤ 4000 then
    (m5_type_l42 v1 NN (v3 - 1) u).bind fun q1 =>
    some ((q1.1 2), q1)
  else
    some ((-4), u)
noncomputable def m5_type (v1 : Int) (v3 : Int) (u : Mu) : Option (Int × Mu) :=
  if (w32 v3) < 0 then
    some ((-2), u)
  else
    if (w32 v3) ≤ 8 then
      if (w32 v3) = 0 then
        (some (ms u 2 0)).bind fun u1 =>
        m5_type_b22 v1 v3 u1
      else
        m5_type_b22 v1 v3 u
    else
      some ((-2), u)
noncomputable def m5_place  (u : Mu) : Option (Int) :=
  some (u.1 10)
noncomputable def m5_isFigure (v0 : Int) : Option (Int) :=
  if (w32 v0) < 48 then
    some 0
  else
    if 57 < (w32 v0) then
      some 0
    else
      some 1
noncomputable def m5_isLetter (v0 : Int) : Option (Int) :=
  if (w32 v0) < 97 then
    some 0
  else
    if 122 < (w32 v0) then
      some 0
    else
      some 1
noncomputable def m5_octet (v1 : Int) (u : Mu) : Option (Int) :=
  if (w32 (u.1 2)) ≤ (w32 v1) then
    some (-1)
  else
    (mald u 1 4000 v1).bind fun x1 =>
    some (and32 x1 255)
noncomputable def m5_nextName_b67 (kh : Int → Mu → Option (Int × Mu)) (v1 : Int) (u : Mu) : Option (Int × Mu) :=
  (some (ms u 3 ((u.1 3) + 1))).bind fun u1 =>
  kh (v1 + 1) u1
noncomputable def m5_nextName_b40 (kh : Int → Mu → Option (Int × Mu)) (v1 : Int) (u : Mu) : Option (Int × Mu) :=
  if 8 ≤ (w32 v1) then
    m5_nextName_b67 (kh) v1 u
  else
    (m5_octet (u.1 3) u).bind fun x1 =>
    (some (ms u 6 (or64 (shl64 (u.1 6) 7) (w32 x1)))).bind fun u2 =>
    m5_nextName_b67 (kh) v1 u2
noncomputable def m5_nextName_l12 : Nat → Int → Mu → Option (Int × Mu)
  | 0, _, _ => none
  | n + 1, v1, u =>
    (m5_octet (u.1 3) u).bind fun x1 =>
    (m5_isLetter x1).bind fun x2 =>
    if (w32 x2) = 0 then
      (m5_octet (u.1 3) u).bind fun x3 =>
      (m5_isFigure x3).bind fun x4 =>
      if (w32 x4) = 0 then
        some (v1, u)
      else
        m5_nextName_b40 (m5_nextName_l12 n) v1 u
    else
      m5_nextName_b40 (m5_nextName_l12 n) v1 u
noncomputable def m5_nextName_l96 : Nat → Int → Mu → Option (Mu)
  | 0, _, _ => none
  | n + 1, v2, u =>
    if 29 ≤ (w32 v2) then
      some u
    else
      if (w32 (u.1 4)) = 1 then
        (mald u 0 30 v2).bind fun x1 =>
        if (w64 x1) = (w64 (u.1 6)) then
          (some (ms u 4 4)).bind fun u2 =>
          (some (ms u2 7 v2)).bind fun u3 =>
          m5_nextName_l96 n (v2 + 1) u3
        else
          m5_nextName_l96 n (v2 + 1) u
      else
        some u
noncomputable def m5_nextName_b94 (u : Mu) : Option (Mu) :=
  (m5_nextName_l96 NN 0 u).bind fun q1 =>
  some q1
noncomputable def m5_nextName  (u : Mu) : Option (Mu) :=
  (some (ms u 4 1)).bind fun u1 =>
  (some (ms u1 6 0)).bind fun u2 =>
  (m5_nextName_l12 NN 0 u2).bind fun q3 =>
  if (w32 q3.1) ≤ 8 then
    m5_nextName_b94 q3.2
  else
    (some (ms q3.2 4 5)).bind fun u4 =>
    m5_nextName_b94 u4
noncomputable def m5_nextNumber_b55 (kh : Int → Mu → Option (Int × Mu)) (v1 : Int) (u : Mu) : Option (Int × Mu) :=
  (some (ms u 3 ((u.1 3) + 1))).bind fun u1 =>
  kh (v1 + 1) u1
noncomputable def m5_nextNumber_l12 : Nat → Int → Mu → Option (Int × Mu)
  | 0, _, _ => none
  | n + 1, v1, u =>
    (m5_octet (u.1 3) u).bind fun x1 =>
    (m5_isFigure x1).bind fun x2 =>
    if (w32 x2) = 0 then
      some (v1, u)
    else
      if 9 ≤ (w32 v1) then
        m5_nextNumber_b55 (m5_nextNumber_l12 n) v1 u
      else
        (m5_octet (u.1 3) u).bind fun x3 =>
        (some (ms u 7 ((((u.1 7) * 10) + x3) - 48))).bind fun u4 =>
        m5_nextNumber_b55 (m5_nextNumber_l12 n) v1 u4
noncomputable def m5_nextNumber  (u : Mu) : Option (Mu) :=
  (some (ms u 4 2)).bind fun u1 =>
  (some (ms u1 7 0)).bind fun u2 =>
  (m5_nextNumber_l12 NN 0 u2).bind fun q3 =>
  if (w32 q3.1) ≤ 9 then
    some q3.2
  else
    (some (ms q3.2 4 5)).bind fun u4 =>
    some u4
noncomputable def m5_nextSign_b119 (s1 : Int) (s2 : Int) (u : Mu) : Option (Mu) :=
  (some (ms u 3 (s1 + s2))).bind fun u1 =>
  some u1
noncomputable def m5_nextSign_b98 (s1 : Int) (u : Mu) : Option (Mu) :=
  (some (ms u 7 s1)).bind fun u1 =>
  if (w32 (u1.1 7)) = 2 then
    m5_nextSign_b119 (u1.1 3) 0 u1
  else
    m5_nextSign_b119 (u1.1 3) 1 u1
noncomputable def m5_nextSign_b73 (s1 : Int) (s2 : Int) (u : Mu) : Option (Mu) :=
  (some (ms u 3 (s1 + s2))).bind fun u1 =>
  some u1
noncomputable def m5_nextSign_b52 (s1 : Int) (u : Mu) : Option (Mu) :=
  (some (ms u 7 s1)).bind fun u1 =>
  if (w32 (u1.1 7)) = 1 then
    m5_nextSign_b73 (u1.1 3) 0 u1
  else
    m5_nextSign_b73 (u1.1 3) 1 u1
noncomputable def m5_nextSign (v1 : Int) (u : Mu) : Option (Mu) :=
  (some (ms u 4 3)).bind fun u1 =>
  (some (ms u1 3 ((u1.1 3) + 1))).bind fun u2 =>
  (m5_octet (u2.1 3) u2).bind fun x3 =>
  if (w32 v1) = 60 then
    if (w32 x3) = 61 then
      m5_nextSign_b52 3 u2
    else
      if (w32 x3) = 62 then
        m5_nextSign_b52 5 u2
      else
        m5_nextSign_b52 1 u2
  else
    if (w32 v1) = 62 then
      if (w32 x3) = 61 then
        m5_nextSign_b98 4 u2
      else
        m5_nextSign_b98 2 u2
    else
      if (w32 v1) = 61 then
        (some (ms u2 7 0)).bind fun u13 =>
        some u13
      else
        if (w32 v1) = 59 then
          (some (ms u2 7 6)).bind fun u11 =>
          some u11
        else
          if (w32 v1) = 44 then
            (some (ms u2 7 7)).bind fun u9 =>
            some u9
          else
            if (w32 v1) = 40 then
              (some (ms u2 7 8)).bind fun u7 =>
              some u7
            else
              if (w32 v1) = 41 then
                (some (ms u2 7 9)).bind fun u5 =>
                some u5
              else
                (some (ms u2 4 5)).bind fun u4 =>
                some u4
noncomputable def m5_next_b39 (kh : Int → Mu → Option (Mu)) (v1 : Int) (u : Mu) : Option (Mu) :=
  (some (ms u 3 ((u.1 3) + 1))).bind fun u1 =>
  kh v1 u1
noncomputable def m5_next_l58 (v1 : Int) : Nat → Mu → Option (Mu)
  | 0, _ => none
  | n + 1, u =>
    (m5_octet (u.1 3) u).bind fun x1 =>
    if (w32 x1) < 0 then
      some u
    else
      (m5_octet (u.1 3) u).bind fun x2 =>
      if (w32 x2) = 10 then
        some u
      else
        (some (ms u 3 ((u.1 3) + 1))).bind fun u3 =>
        m5_next_l58 v1 n u3
noncomputable def m5_next_l2 : Nat → Int → Mu → Option (Mu)
  | 0, _, _ => none
  | n + 1, v1, u =>
    if (w32 v1) = 0 then
      some u
    else
      (m5_octet (u.1 3) u).bind fun x1 =>
      if (w32 x1) = 32 then
        m5_next_b39 (m5_next_l2 n) v1 u
      else
        if (w32 x1) = 9 then
          m5_next_b39 (m5_next_l2 n) v1 u
        else
          if (w32 x1) = 10 then
            m5_next_b39 (m5_next_l2 n) v1 u
          else
            if (w32 x1) = 13 then
              m5_next_b39 (m5_next_l2 n) v1 u
            else
              if (w32 x1) = 35 then
                (m5_next_l58 v1 NN u).bind fun q2 =>
                m5_next_l2 n v1 q2
              else
                m5_next_l2 n 0 u
noncomputable def m5_next  (u : Mu) : Option (Mu) :=
  (m5_next_l2 NN 1 u).bind fun q1 =>
  (some (ms q1 5 (q1.1 3))).bind fun u2 =>
  (m5_octet (u2.1 3) u2).bind fun x3 =>
  if 0 ≤ (w32 x3) then
    (m5_isLetter x3).bind fun x4 =>
    if (w32 x4) = 0 then
      (m5_isFigure x3).bind fun x5 =>
      if (w32 x5) = 0 then
        (m5_nextSign x3 u2).bind fun u6 =>
        some u6
      else
        (m5_nextNumber u2).bind fun u7 =>
        some u7
    else
      (m5_nextName u2).bind fun u9 =>
      some u9
  else
    (some (ms u2 4 0)).bind fun u11 =>
    some u11
noncomputable def m5_beginText (v1 : Int) (v2 : Int) (u : Mu) : Option (Mu) :=
  (some (ms u 3 0)).bind fun u1 =>
  (some (ms u1 8 0)).bind fun u2 =>
  (some (ms u2 46 0)).bind fun u3 =>
  (some (ms u3 52 0)).bind fun u4 =>
  (some (ms u4 47 v2)).bind fun u5 =>
  (some (ms u5 56 0)).bind fun u6 =>
  (some (ms u6 51 v1)).bind fun u7 =>
  (m5_next u7).bind fun u8 =>
  some u8
noncomputable def m5_clear_l37 (v1 : Int) : Nat → Int → Mu → Option (Mu)
  | 0, _, _ => none
  | n + 1, v2, u =>
    if 5 ≤ (w32 v2) then
      some u
    else
      (mast u 32 70 ((5 * v1) + v2) (-3)).bind fun u1 =>
      m5_clear_l37 v1 n (v2 + 1) u1
noncomputable def m5_clear (v1 : Int) (u : Mu) : Option (Mu) :=
  (mast u 12 14 v1 0).bind fun u1 =>
  (mast u1 19 14 v1 0).bind fun u2 =>
  (mast u2 23 14 v1 0).bind fun u3 =>
  (mast u3 27 14 v1 0).bind fun u4 =>
  (mast u4 33 14 v1 0).bind fun u5 =>
  (m5_clear_l37 v1 NN 0 u5).bind fun q6 =>
  some q6
noncomputable def m5_copyWording_l133 (v1 : Int) (v2 : Int) (v3 : Int) : Nat → Int → Mu → Option (Mu)
  | 0, _, _ => none
  | n + 1, v4, u =>
    if 6 ≤ (w32 v4) then
      some u
    else
      (mald u 16 672 ((6 * ((8 * v2) + v3)) + v4)).bind fun x1 =>
      (mast u 16 672 ((6 * ((8 * v1) + v3)) + v4) x1).bind fun u2 =>
      m5_copyWording_l133 v1 v2 v3 n (v4 + 1) u2
noncomputable def m5_copyWording_l14 (v1 : Int) (v2 : Int) : Nat → Int → Mu → Option (Mu)
  | 0, _, _ => none
  | n + 1, v3, u =>
    if 8 ≤ (w32 v3) then
      some u
    else
      (mald u 13 112 ((8 * v2) + v3)).bind fun x1 =>
      (mast u 13 112 ((8 * v1) + v3) x1).bind fun u2 =>
      (mald u2 14 112 ((8 * v2) + v3)).bind fun x3 =>
      (mast u2 14 112 ((8 * v1) + v3) x3).bind fun u4 =>
      (mald u4 15 112 ((8 * v2) + v3)).bind fun x5 =>
      (mast u4 15 112 ((8 * v1) + v3) x5).bind fun u6 =>
      (mald u6 17 112 ((8 * v2) + v3)).bind fun x7 =>
      (mast u6 17 112 ((8 * v1) + v3) x7).bind fun u8 =>
      (mald u8 18 112 ((8 * v2) + v3)).bind fun x9 =>
      (mast u8 18 112 ((8 * v1) + v3) x9).bind fun u10 =>
      (m5_copyWording_l133 v1 v2 v3 NN 0 u10).bind fun q11 =>
      m5_copyWording_l14 v1 v2 n (v3 + 1) q11
noncomputable def m5_copyWording_l200 (v1 : Int) (v2 : Int) : Nat → Int → Mu → Option (Mu)
  | 0, _, _ => none
  | n + 1, v3, u =>
    if 12 ≤ (w32 v3) then
      some u
    else
      (mald u 20 168 ((12 * v2) + v3)).bind fun x1 =>
      (mast u 20 168 ((12 * v1) + v3) x1).bind fun u2 =>
      m5_copyWording_l200 v1 v2 n (v3 + 1) u2
noncomputable def m5_copyWording_l248 (v1 : Int) (v2 : Int) : Nat → Int → Mu → Option (Mu)
  | 0, _, _ => none
  | n + 1, v3, u =>
    if 24 ≤ (w32 v3) then
      some u
    else
      (mald u 28 336 ((24 * v2) + v3)).bind fun x1 =>
      (mast u 28 336 ((24 * v1) + v3) x1).bind fun u2 =>
      (mald u2 29 336 ((24 * v2) + v3)).bind fun x3 =>
      (mast u2 29 336 ((24 * v1) + v3) x3).bind fun u4 =>
      m5_copyWording_l248 v1 v2 n (v3 + 1) u4
noncomputable def m5_copyWording_l306 (v1 : Int) (v2 : Int) : Nat → Int → Mu → Option (Mu)
  | 0, _, _ => none
  | n + 1, v3, u =>
    if 5 ≤ (w32 v3) then
      some u
    else
      (mald u 32 70 ((5 * v2) + v3)).bind fun x1 =>
      (mast u 32 70 ((5 * v1) + v3) x1).bind fun u2 =>
      m5_copyWording_l306 v1 v2 n (v3 + 1) u2
noncomputable def m5_copyWording (v1 : Int) (v2 : Int) (u : Mu) : Option (Mu) :=
  (mald u 12 14 v2).bind fun x1 =>
  (mast u 12 14 v1 x1).bind fun u2 =>
  (m5_copyWording_l14 v1 v2 NN 0 u2).bind fun q3 =>
  (mald q3 19 14 v2).bind fun x4 =>
  (mast q3 19 14 v1 x4).bind fun u5 =>
  (m5_copyWording_l200 v1 v2 NN 0 u5).bind fun q6 =>
  (mald q6 27 14 v2).bind fun x7 =>
  (mast q6 27 14 v1 x7).bind fun u8 =>
  (m5_copyWording_l248 v1 v2 NN 0 u8).bind fun q9 =>
  (m5_copyWording_l306 v1 v2 NN 0 q9).bind fun q10 =>
  some q10
noncomputable def m5_ended_b21 (s1 : Int) (u : Mu) : Option (Int × Mu) :=
  (some (ms u 10 s1)).bind fun u1 =>
  if (w32 (u1.1 8)) ≤ 0 then
    some (0, u1)
  else
    some (((-10) - (u1.1 8)), u1)
noncomputable def m5_ended  (u : Mu) : Option (Int × Mu) :=
  (some (ms u 2 0)).bind fun u1 =>
  if (w32 (u1.1 8)) ≤ 0 then
    m5_ended_b21 (-1) u1
  else
    m5_ended_b21 (u1.1 9) u1
noncomputable def m5_holdsSign (v0 : Int) (v1 : Int) (v2 : Int) : Option (Int) :=
  if (w32 v0) = 0 then
    if (w32 v1) = (w32 v2) then
      some 1
    else
      some 0
  else
    if (w32 v0) = 1 then
      if (w32 v2) ≤ (w32 v1) then
        some 0
      else
        some 1
    else
      if (w32 v0) = 2 then
        if (w32 v1) ≤ (w32 v2) then
          some 0
        else
          some 1
      else
        if (w32 v0) = 3 then
          if (w32 v2) < (w32 v1) then
            some 0
          else
            some 1
        else
          if (w32 v0) = 4 then
            if (w32 v1) < (w32 v2) then
              some 0
            else
              some 1
          else
            if (w32 v1) = (w32 v2) then
              some 0
            else
              some 1
noncomputable def m5_isTrue_b213 (kh : Int → Int → Mu → Option (Mu)) (v1 : Int) (v3 : Int) (v4 : Int) (v5 : Int) (s1 : Int) (u : Mu) : Option (Mu) :=
  (mast u 60 4100 s1 (nz 1)).bind fun u1 =>
  kh v4 (v5 + 1) u1
noncomputable def m5_isTrue_b187 (kh : Int → Int → Mu → Option (Mu)) (v1 : Int) (v3 : Int) (v4 : Int) (v5 : Int) (s1 : Int) (u : Mu) : Option (Mu) :=
  (mast u 60 4100 s1 (nz 0)).bind fun u1 =>
  kh v4 (v5 + 1) u1
noncomputable def m5_isTrue_b140 (kh : Int → Int → Mu → Option (Mu)) (v1 : Int) (v3 : Int) (v4 : Int) (v5 : Int) (s1 : Int) (s2 : Int) (u : Mu) : Option (Mu) :=
  (mast u 60 4100 s1 (nz s2)).bind fun u1 =>
  kh v4 (v5 + 1) u1
noncomputable def m5_isTrue_l6 (v1 : Int) (v3 : Int) : Nat → Int → Int → Mu → Option (Mu)
  | 0, _, _, _ => none
  | n + 1, v4, v5, u =>
    if (w32 v3) ≤ (w32 v5) then
      some u
    else
      (mald u 34 33600 ((2400 * v1) + v5)).bind fun x1 =>
      if (w32 x1) = 0 then
        (mald u 36 33600 ((2400 * v1) + v5)).bind fun x20 =>
        (mald u 35 33600 ((2400 * v1) + v5)).bind fun x21 =>
        (mald u 59 8 x21).bind fun x22 =>
        (mald u 37 33600 ((2400 * v1) + v5)).bind fun x23 =>
        (m5_holdsSign x20 x22 x23).bind fun x24 =>
        (mast u 60 4100 v4 (nz x24)).bind fun u25 =>
        m5_isTrue_l6 v1 v3 n (v4 + 1) (v5 + 1) u25
      else
        if (w32 x1) = 1 then
          (mald u 35 33600 ((2400 * v1) + v5)).bind fun x16 =>
          (mald u 61 12 x16).bind fun x17 =>
          (mast u 60 4100 v4 (nz x17)).bind fun u18 =>
          m5_isTrue_l6 v1 v3 n (v4 + 1) (v5 + 1) u18
        else
          if (w32 x1) = 2 then
            (mald u 60 4100 (v4 - 1)).bind fun x13 =>
            if (w32 x13) = 0 then
              m5_isTrue_b140 (m5_isTrue_l6 v1 v3 n) v1 v3 v4 v5 (v4 - 1) 1 u
            else
              m5_isTrue_b140 (m5_isTrue_l6 v1 v3 n) v1 v3 v4 v5 (v4 - 1) 0 u
          else
            if (w32 x1) = 3 then
              (mald u 60 4100 ((v4 + (-1)) - 1)).bind fun x7 =>
              if (w32 x7) = 0 then
                m5_isTrue_b187 (m5_isTrue_l6 v1 v3 n) v1 v3 (v4 + (-1)) v5 ((v4 + (-1)) - 1) u
              else
                (mald u 60 4100 (v4 + (-1))).bind fun x8 =>
                if (w32 x8) = 0 then
                  m5_isTrue_b187 (m5_isTrue_l6 v1 v3 n) v1 v3 (v4 + (-1)) v5 ((v4 + (-1)) - 1) u
                else
                  (mast u 60 4100 ((v4 + (-1)) - 1) (nz 1)).bind fun u9 =>
                  m5_isTrue_l6 v1 v3 n (v4 + (-1)) (v5 + 1) u9
            else
              (mald u 60 4100 ((v4 + (-1)) - 1)).bind fun x2 =>
              if (w32 x2) = 0 then
                (mald u 60 4100 (v4 + (-1))).bind fun x3 =>
                if (w32 x3) = 0 then
                  (mast u 60 4100 ((v4 + (-1)) - 1) (nz 0)).bind fun u4 =>
                  m5_isTrue_l6 v1 v3 n (v4 + (-1)) (v5 + 1) u4
                else
                  m5_isTrue_b213 (m5_isTrue_l6 v1 v3 n) v1 v3 (v4 + (-1)) v5 ((v4 + (-1)) - 1) u
              else
                m5_isTrue_b213 (m5_isTrue_l6 v1 v3 n) v1 v3 (v4 + (-1)) v5 ((v4 + (-1)) - 1) u
noncomputable def m5_isTrue (v1 : Int) (v2 : Int) (v3 : Int) (u : Mu) : Option (Int × Mu) :=
  (m5_isTrue_l6 v1 v3 NN 0 v2 u).bind fun q1 =>
  (mald q1 60 4100 0).bind fun x2 =>
  if w32 x2 = 0 ∨ w32 x2 = 1 then some (x2, q1) else none
noncomputable def m5_findMeant_l2 (v1 : Int) : Nat → Int → Mu → Option (Mu)
  | 0, _, _ => none
  | n + 1, v2, u =>
    (mald u 19 14 v1).bind fun x1 =>
    if (w32 x1) ≤ (w32 v2) then
      some u
    else
      (mald u 21 168 ((12 * v1) + v2)).bind fun x2 =>
      (mald u 22 168 ((12 * v1) + v2)).bind fun x3 =>
      (m5_isTrue v1 x2 x3 u).bind fun q4 =>
      (mast q4.2 61 12 v2 (nz q4.1)).bind fun u5 =>
      m5_findMeant_l2 v1 n (v2 + 1) u5
noncomputable def m5_findMeant (v1 : Int) (u : Mu) : Option (Mu) :=
  (m5_findMeant_l2 v1 NN 0 u).bind fun q1 =>
  some q1
noncomputable def m5_answers_b116 (kh : Int → Int → Int → Mu → Option (Int × Mu)) (v1 : Int) (v2 : Int) (v4 : Int) (s0 : Int) (u : Mu) : Option (Int × Mu) :=
  (some (ms u 62 (v4 + 1))).bind fun u1 =>
  kh v2 s0 (v4 + 1) u1
noncomputable def m5_answers_b111 (kh : Int → Int → Int → Mu → Option (Int × Mu)) (v1 : Int) (v2 : Int) (v4 : Int) (u : Mu) : Option (Int × Mu) :=
  m5_answers_b116 (kh) v1 v2 v4 1 u
noncomputable def m5_answers_b96 (kh : Int → Int → Int → Mu → Option (Int × Mu)) (v1 : Int) (v3 : Int) (v4 : Int) (v5 : Int) (s0 : Int) (u : Mu) : Option (Int × Mu) :=
  if (w32 v3) = 0 then
    (mald u 24 336 v5).bind fun x1 =>
    if (w32 x1) = 0 then
      m5_answers_b111 (kh) v1 s0 v4 u
    else
      m5_answers_b116 (kh) v1 s0 v4 0 u
  else
    m5_answers_b111 (kh) v1 s0 v4 u
noncomputable def m5_answers_b80 (kh : Int → Int → Int → Mu → Option (Int × Mu)) (v1 : Int) (v3 : Int) (v4 : Int) (v5 : Int) (u : Mu) : Option (Int × Mu) :=
  (mald u 24 336 v5).bind fun x1 =>
  if (w32 x1) = 1 then
    m5_answers_b96 (kh) v1 v3 v4 v5 0 u
  else
    m5_answers_b96 (kh) v1 v3 v4 v5 1 u
noncomputable def m5_answers_l17 (v1 : Int) : Nat → Int → Int → Int → Mu → Option (Int × Mu)
  | 0, _, _, _, _ => none
  | n + 1, v2, v3, v4, u =>
    (mald u 23 14 v1).bind fun x1 =>
    if (w32 x1) ≤ (w32 v4) then
      some (v2, u)
    else
      (mald u 25 336 ((24 * v1) + v4)).bind fun x2 =>
      (mald u 26 336 ((24 * v1) + v4)).bind fun x3 =>
      (m5_isTrue v1 x2 x3 u).bind fun q4 =>
      if (w32 q4.1) = 0 then
        m5_answers_l17 v1 n v2 v3 (v4 + 1) q4.2
      else
        (mald q4.2 24 336 ((24 * v1) + v4)).bind fun x5 =>
        if (w32 x5) = 2 then
          if (w32 v3) = 0 then
            m5_answers_l17 v1 n v2 v3 (v4 + 1) q4.2
          else
            m5_answers_b80 (m5_answers_l17 v1 n) v1 v3 v4 ((24 * v1) + v4) q4.2
        else
          m5_answers_b80 (m5_answers_l17 v1 n) v1 v3 v4 ((24 * v1) + v4) q4.2
noncomputable def m5_answers (v1 : Int) (u : Mu) : Option (Int × Mu) :=
  (m5_findMeant v1 u).bind fun u1 =>
  (some (ms u1 62 0)).bind fun u2 =>
  (m5_answers_l17 v1 NN 0 0 0 u2).bind fun q3 =>
  if w32 q3.1 = 0 ∨ w32 q3.1 = 1 then some (q3.1, q3.2) else none
noncomputable def m5_insertStart_l3 (v1 : Int) (v2 : Int) (v3 : Int) (u : Mu) : Nat → Int → Option (Int)
  | 0, _ => none
  | n + 1, v4 =>
    if (w32 v4) ≤ 0 then
      some v4
    else
      (mald u 38 68096 (((608 * v1) + v4) - 1)).bind fun x1 =>
      if (w32 x1) < (w32 v3) then
        some v4
      else
        m5_insertStart_l3 v1 v2 v3 u n (v4 + (-1))
noncomputable def m5_insertStart_l61 (v1 : Int) (v2 : Int) (v3 : Int) (v4 : Int) : Nat → Int → Mu → Option (Mu)
  | 0, _, _ => none
  | n + 1, v5, u =>
    if (w32 v5) ≤ (w32 v4) then
      some u
    else
      (mald u 38 68096 (((608 * v1) + v5) - 1)).bind fun x1 =>
      (mast u 38 68096 ((608 * v1) + v5) x1).bind fun u2 =>
      m5_insertStart_l61 v1 v2 v3 v4 n (v5 + (-1)) u2
noncomputable def m5_insertStart_b58 (v1 : Int) (v2 : Int) (v3 : Int) (v4 : Int) (u : Mu) : Option (Int × Mu) :=
  (m5_insertStart_l61 v1 v2 v3 v4 NN v2 u).bind fun q1 =>
  (mast q1 38 68096 ((608 * v1) + v4) v3).bind fun u2 =>
  some ((v2 + 1), u2)
noncomputable def m5_insertStart_b33 (v1 : Int) (v2 : Int) (v3 : Int) (v4 : Int) (u : Mu) : Option (Int × Mu) :=
  if (w32 v2) ≤ (w32 v4) then
    m5_insertStart_b58 v1 v2 v3 v4 u
  else
    (mald u 38 68096 ((608 * v1) + v4)).bind fun x1 =>
    if (w32 x1) = (w32 v3) then
      some (v2, u)
    else
      m5_insertStart_b58 v1 v2 v3 v4 u
noncomputable def m5_insertStart (v1 : Int) (v2 : Int) (v3 : Int) (u : Mu) : Option (Int × Mu) :=
  (m5_insertStart_l3 v1 v2 v3 u NN v2).bind fun q1 =>
  m5_insertStart_b33 v1 v2 v3 q1 u
noncomputable def m5_findStarts_l126 (v1 : Int) (v2 : Int) (v3 : Int) (v5 : Int) (v6 : Int) : Nat → Int → Int → Mu → Option (Int × Mu)
  | 0, _, _, _ => none
  | n + 1, v4, v7, u =>
    if 2 ≤ (w32 v7) then
      some (v4, u)
    else
      (mald u 37 33600 v6).bind fun x1 =>
      (mald u 17 112 v3).bind fun x2 =>
      if (w32 (x1 + v7)) ≤ (w32 x2) then
        m5_findStarts_l126 v1 v2 v3 v5 v6 n v4 (v7 + 1) u
      else
        (mald u 18 112 v3).bind fun x3 =>
        if (w32 x3) < (w32 (x1 + v7)) then
          m5_findStarts_l126 v1 v2 v3 v5 v6 n v4 (v7 + 1) u
        else
          (mald u 36 33600 v6).bind fun x4 =>
          (mald u 37 33600 v6).bind fun x5 =>
          (m5_holdsSign x4 (x1 + v7) x5).bind fun x6 =>
          (mald u 36 33600 v6).bind fun x7 =>
          (mald u 37 33600 v6).bind fun x8 =>
          (m5_holdsSign x7 ((x1 + v7) - 1) x8).bind fun x9 =>
          if (w32 x6) = (w32 x9) then
            m5_findStarts_l126 v1 v2 v3 v5 v6 n v4 (v7 + 1) u
          else
            (m5_insertStart v3 v4 (x1 + v7) u).bind fun q10 =>
            m5_findStarts_l126 v1 v2 v3 v5 v6 n q10.1 (v7 + 1) q10.2
noncomputable def m5_findStarts_l78 (v1 : Int) (v2 : Int) (v3 : Int) : Nat → Int → Int → Mu → Option (Int × Mu)
  | 0, _, _, _ => none
  | n + 1, v4, v5, u =>
    (mald u 33 14 v1).bind fun x1 =>
    if (w32 x1) ≤ (w32 v5) then
      some (v4, u)
    else
      (mald u 34 33600 ((2400 * v1) + v5)).bind fun x2 =>
      if (w32 x2) = 0 then
        (mald u 35 33600 ((2400 * v1) + v5)).bind fun x3 =>
        if (w32 x3) = (w32 v2) then
          (m5_findStarts_l126 v1 v2 v3 v5 ((2400 * v1) + v5) NN v4 0 u).bind fun q4 =>
          m5_findStarts_l78 v1 v2 v3 n q4.1 (v5 + 1) q4.2
        else
          m5_findStarts_l78 v1 v2 v3 n v4 (v5 + 1) u
      else
        m5_findStarts_l78 v1 v2 v3 n v4 (v5 + 1) u
noncomputable def m5_findStarts_l23 (v3 : Int) : Nat → Int → Int → Mu → Option (Int × Mu)
  | 0, _, _, _ => none
  | n + 1, v4, v5, u =>
    (mald u 18 112 v3).bind fun x1 =>
    if (w32 x1) < (w32 v5) then
      some (v4, u)
    else
      (m5_insertStart v3 v4 v5 u).bind fun q2 =>
      m5_findStarts_l23 v3 n q2.1 (v5 + 1) q2.2
noncomputable def m5_findStarts (v1 : Int) (v2 : Int) (u : Mu) : Option (Mu) :=
  (mald u 14 112 ((8 * v1) + v2)).bind fun x1 =>
  if 2 ≤ (w32 x1) then
    (mald u 17 112 ((8 * v1) + v2)).bind fun x2 =>
    (m5_insertStart ((8 * v1) + v2) 0 x2 u).bind fun q3 =>
    (m5_findStarts_l78 v1 v2 ((8 * v1) + v2) NN q3.1 0 q3.2).bind fun q4 =>
    (mast q4.2 39 112 ((8 * v1) + v2) q4.1).bind fun u5 =>
    some u5
  else
    (m5_findStarts_l23 ((8 * v1) + v2) NN 0 0 u).bind fun q6 =>
    (mast q6.2 39 112 ((8 * v1) + v2) q6.1).bind fun u7 =>
    some u7
noncomputable def m5_wrong (v1 : Int) (u : Mu) : Option (Mu) :=
  if (w32 (u.1 8)) = 0 then
    (some (ms u 8 v1)).bind fun u1 =>
    (some (ms u1 9 (u1.1 5))).bind fun u2 =>
    some u2
  else
    some u
noncomputable def m5_finish_l5 (v1 : Int) : Nat → Int → Int → Mu → Option (Int × Mu)
  | 0, _, _, _ => none
  | n + 1, v2, v4, u =>
    (mald u 12 14 v1).bind fun x1 =>
    if (w32 x1) ≤ (w32 v4) then
      some (v2, u)
    else
      (m5_findStarts v1 v4 u).bind fun u2 =>
      if (w64 v2) ≤ 1000000 then
        (mald u2 39 112 ((8 * v1) + v4)).bind fun x3 =>
        m5_finish_l5 v1 n (v2 * (w32 x3)) (v4 + 1) u2
      else
        m5_finish_l5 v1 n v2 (v4 + 1) u2
noncomputable def m5_finish_l108 (v1 : Int) (v4 : Int) : Nat → Int → Int → Mu → Option (Mu)
  | 0, _, _, _ => none
  | n + 1, v5, v6, u =>
    if (w32 v6) < 0 then
      some u
    else
      (mald u 39 112 ((8 * v1) + v6)).bind fun x1 =>
      if w32 x1 = 0 then none else
      (mald u 38 68096 ((608 * ((8 * v1) + v6)) + (rem32 v5 x1))).bind fun x3 =>
      (mast u 59 8 v6 x3).bind fun u4 =>
      if w32 x1 = 0 then none else
      m5_finish_l108 v1 v4 n (div32 v5 x1) (v6 + (-1)) u4
noncomputable def m5_finish_l83 (v1 : Int) : Nat → Int → Mu → Option (Mu)
  | 0, _, _ => none
  | n + 1, v4, u =>
    (mald u 40 14 v1).bind fun x1 =>
    if (w32 x1) ≤ (w32 v4) then
      some u
    else
      (mald u 12 14 v1).bind fun x2 =>
      (m5_finish_l108 v1 v4 NN v4 (x2 - 1) u).bind fun q3 =>
      (m5_answers v1 q3).bind fun q4 =>
      (mast q4.2 41 28000 ((2000 * v1) + v4) (nz q4.1)).bind fun u5 =>
      m5_finish_l83 v1 n (v4 + 1) u5
noncomputable def m5_finish (v1 : Int) (u : Mu) : Option (Mu) :=
  (m5_finish_l5 v1 NN 1 0 u).bind fun q1 =>
  if (w64 q1.1) ≤ 2000 then
    (mast q1.2 40 14 v1 q1.1).bind fun u2 =>
    (m5_finish_l83 v1 NN 0 u2).bind fun q3 =>
    some q3
  else
    (m5_wrong 7 q1.2).bind fun u4 =>
    some u4
noncomputable def m5_cannot_b14 (s1 : Int) (u : Mu) : Option (Mu) :=
  (m5_wrong s1 u).bind fun u1 =>
  some u1
noncomputable def m5_cannot  (u : Mu) : Option (Mu) :=
  if (w32 (u.1 4)) = 5 then
    m5_cannot_b14 1 u
  else
    m5_cannot_b14 2 u
noncomputable def m5_isClause  (u : Mu) : Option (Int) :=
  if (w32 (u.1 4)) = 4 then
    if (w32 (u.1 7)) < 6 then
      some 0
    else
      if 8 < (w32 (u.1 7)) then
        some 0
      else
        some 1
  else
    some 0
noncomputable def m5_countNode  (u : Mu) : Option (Mu) :=
  (some (ms u 52 ((u.1 52) + 1))).bind fun u1 =>
  if (w32 (u1.1 52)) ≤ (w32 (u1.1 47)) then
    some u1
  else
    (m5_wrong 6 u1).bind fun u2 =>
    some u2
noncomputable def m5_deeper_b15 (v1 : Int) (u : Mu) : Option (Mu) :=
  (some (ms u 50 ((u.1 50) + 1))).bind fun u1 =>
  (mast u1 48 4100 (u1.1 49) v1).bind fun u2 =>
  (some (ms u2 49 ((u2.1 49) + 1))).bind fun u3 =>
  some u3
noncomputable def m5_deeper (v1 : Int) (u : Mu) : Option (Mu) :=
  if (w32 (u.1 50)) ≤ 15 then
    m5_deeper_b15 v1 u
  else
    (m5_wrong 6 u).bind fun u1 =>
    m5_deeper_b15 v1 u1
noncomputable def m5_emit (v1 : Int) (u : Mu) : Option (Mu) :=
  (mast u 42 4100 (u.1 46) (w8 (w8 v1))).bind fun u1 =>
  (some (ms u1 46 ((u1.1 46) + 1))).bind fun u2 =>
  some u2
noncomputable def m5_endPart_l0 : Nat → Mu → Option (Mu)
  | 0, _ => none
  | n + 1, u =>
    if (w32 (u.1 49)) ≤ 0 then
      some u
    else
      (mald u 48 4100 ((u.1 49) - 1)).bind fun x1 =>
      if (w32 x1) = 2 then
        (m5_emit 2 u).bind fun u2 =>
        (some (ms u2 49 ((u2.1 49) - 1))).bind fun u3 =>
        (some (ms u3 50 ((u3.1 50) - 1))).bind fun u4 =>
        m5_endPart_l0 n u4
      else
        some u
noncomputable def m5_endPart  (u : Mu) : Option (Mu) :=
  (m5_endPart_l0 NN u).bind fun q1 =>
  some q1
noncomputable def m5_isSign (v1 : Int) (u : Mu) : Option (Int) :=
  if (w32 (u.1 4)) = 3 then
    if (w32 (u.1 7)) = (w32 v1) then
      some 1
    else
      some 0
  else
    some 0
noncomputable def m5_isWord (v1 : Int) (u : Mu) : Option (Int) :=
  if (w32 (u.1 4)) = 4 then
    if (w32 (u.1 7)) = (w32 v1) then
      some 1
    else
      some 0
  else
    some 0
noncomputable def m5_onTop (v1 : Int) (u : Mu) : Option (Int) :=
  if (w32 (u.1 49)) ≤ 0 then
    some 0
  else
    (mald u 48 4100 ((u.1 49) - 1)).bind fun x1 =>
    if (w32 x1) = (w32 v1) then
      some 1
    else
      some 0
noncomputable def m5_choiceOf_l3 (v1 : Int) (v2 : Int) (u : Mu) : Nat → Int → Option ((Int) ⊕ (Unit))
  | 0, _ => none
  | n + 1, v4 =>
    (mald u 15 112 v1).bind fun x1 =>
    if (w32 x1) ≤ (w32 v4) then
      some (.inr ())
    else
      (mald u 16 672 ((6 * v1) + v4)).bind fun x2 =>
      if (w64 x2) = (w64 v2) then
        some (.inl v4)
      else
        m5_choiceOf_l3 v1 v2 u n (v4 + 1)
noncomputable def m5_choiceOf (v1 : Int) (v2 : Int) (u : Mu) : Option (Int) :=
  (m5_choiceOf_l3 v1 v2 u NN 0).bind
    (Sum.elim
      (fun q1 =>
        some q1)
      (fun q2 =>
        some (-1)))
noncomputable def m5_factOf_l3 (v1 : Int) (v2 : Int) (u : Mu) : Nat → Int → Option ((Int) ⊕ (Unit))
  | 0, _ => none
  | n + 1, v4 =>
    (mald u 12 14 v1).bind fun x1 =>
    if (w32 x1) ≤ (w32 v4) then
      some (.inr ())
    else
      (mald u 13 112 ((8 * v1) + v4)).bind fun x2 =>
      if (w64 x2) = (w64 v2) then
        some (.inl v4)
      else
        m5_factOf_l3 v1 v2 u n (v4 + 1)
noncomputable def m5_factOf (v1 : Int) (v2 : Int) (u : Mu) : Option (Int) :=
  (m5_factOf_l3 v1 v2 u NN 0).bind
    (Sum.elim
      (fun q1 =>
        some q1)
      (fun q2 =>
        some (-1)))
noncomputable def m5_meanOf_l3 (v1 : Int) (v2 : Int) (u : Mu) : Nat → Int → Option ((Int) ⊕ (Unit))
  | 0, _ => none
  | n + 1, v4 =>
    (mald u 19 14 v1).bind fun x1 =>
    if (w32 x1) ≤ (w32 v4) then
      some (.inr ())
    else
      (mald u 20 168 ((12 * v1) + v4)).bind fun x2 =>
      if (w64 x2) = (w64 v2) then
        some (.inl v4)
      else
        m5_meanOf_l3 v1 v2 u n (v4 + 1)
noncomputable def m5_meanOf (v1 : Int) (v2 : Int) (u : Mu) : Option (Int) :=
  (m5_meanOf_l3 v1 v2 u NN 0).bind
    (Sum.elim
      (fun q1 =>
        some q1)
      (fun q2 =>
        some (-1)))
noncomputable def m5_part_b195 (u : Mu) : Option (Mu) :=
  (m5_cannot u).bind fun u1 =>
  some u1
noncomputable def m5_part_b280 (s0 : Int) (u : Mu) : Option (Mu) :=
  if 0 ≤ (w32 s0) then
    (mast u 45 4100 (u.1 46) s0).bind fun u1 =>
    (m5_emit 0 u1).bind fun u2 =>
    (m5_next u2).bind fun u3 =>
    some u3
  else
    (m5_wrong 4 u).bind fun u4 =>
    some u4
noncomputable def m5_part_b243 (v1 : Int) (v3 : Int) (s0 : Int) (s1 : Int) (u : Mu) : Option (Mu) :=
  if (w32 s0) = (w32 s1) then
    if (w32 v3) = 1 then
      (m5_choiceOf ((8 * (u.1 51)) + v1) (u.1 6) u).bind fun x1 =>
      m5_part_b280 x1 u
    else
      m5_part_b280 (u.1 7) u
  else
    (m5_cannot u).bind fun u3 =>
    some u3
noncomputable def m5_part_b200 (v1 : Int) (v3 : Int) (u : Mu) : Option (Mu) :=
  (mast u 43 4100 (u.1 46) (w8 (w8 v1))).bind fun u1 =>
  (mast u1 44 4100 (u1.1 46) (w8 (w8 (u1.1 7)))).bind fun u2 =>
  (m5_next u2).bind fun u3 =>
  if (w32 v3) = 1 then
    m5_part_b243 v1 v3 (u3.1 4) 1 u3
  else
    m5_part_b243 v1 v3 (u3.1 4) 2 u3
noncomputable def m5_part_b166 (s1 : Int) (u : Mu) : Option (Mu) :=
  (m5_emit s1 u).bind fun u1 =>
  some u1
noncomputable def m5_part_b134 (v1 : Int) (s1 : Int) (s2 : Int) (u : Mu) : Option (Mu) :=
  (mast u 43 4100 s1 (w8 (w8 s2))).bind fun u1 =>
  (mast u1 44 4100 (u1.1 46) (w8 0)).bind fun u2 =>
  (mast u2 45 4100 (u2.1 46) 1).bind fun u3 =>
  if 0 ≤ (w32 v1) then
    m5_part_b166 0 u3
  else
    m5_part_b166 1 u3
noncomputable def m5_part_b100 (v1 : Int) (v2 : Int) (v3 : Int) (s0 : Int) (u : Mu) : Option (Mu) :=
  if (w32 v3) = 0 then
    if (w32 s0) = 0 then
      if 0 ≤ (w32 v1) then
        m5_part_b134 v1 (u.1 46) v1 u
      else
        m5_part_b134 v1 (u.1 46) v2 u
    else
      (m5_wrong 2 u).bind fun u6 =>
      some u6
  else
    if (w32 s0) = 0 then
      m5_part_b195 u
    else
      if (w32 v3) = 1 then
        if (w32 (u.1 7)) = 0 then
          m5_part_b200 v1 v3 u
        else
          if (w32 (u.1 7)) = 5 then
            m5_part_b200 v1 v3 u
          else
            m5_part_b195 u
      else
        m5_part_b200 v1 v3 u
noncomputable def m5_part_b99 (v1 : Int) (v2 : Int) (v3 : Int) (u : Mu) : Option (Mu) :=
  m5_part_b100 v1 v2 v3 0 u
noncomputable def m5_part_b74 (v1 : Int) (v2 : Int) (s0 : Int) (u : Mu) : Option (Mu) :=
  (m5_next u).bind fun u1 =>
  if (w32 (u1.1 4)) = 3 then
    if 5 < (w32 (u1.1 7)) then
      m5_part_b99 v1 v2 s0 u1
    else
      m5_part_b100 v1 v2 s0 1 u1
  else
    m5_part_b99 v1 v2 s0 u1
noncomputable def m5_part_b40 (v1 : Int) (v2 : Int) (u : Mu) : Option (Mu) :=
  (m5_countNode u).bind fun u1 =>
  if (w32 (u1.1 8)) ≤ 0 then
    if 0 ≤ (w32 v1) then
      (mald u1 14 112 ((8 * (u1.1 51)) + v1)).bind fun x2 =>
      m5_part_b74 v1 v2 x2 u1
    else
      m5_part_b74 v1 v2 0 u1
  else
    some u1
noncomputable def m5_part  (u : Mu) : Option (Mu) :=
  (m5_factOf (u.1 51) (u.1 6) u).bind fun x1 =>
  (m5_meanOf (u.1 51) (u.1 6) u).bind fun x2 =>
  if 0 ≤ (w32 x1) then
    m5_part_b40 x1 x2 u
  else
    if 0 ≤ (w32 x2) then
      m5_part_b40 x1 x2 u
    else
      (m5_wrong 4 u).bind fun u3 =>
      some u3
noncomputable def m5_cond_b154 (kh : Mu → Option (Mu)) (v2 : Int) (u : Mu) : Option (Mu) :=
  (mald u 48 4100 ((u.1 49) - 1)).bind fun x1 =>
  (m5_emit x1 u).bind fun u2 =>
  (some (ms u2 49 ((u2.1 49) - 1))).bind fun u3 =>
  kh u3
noncomputable def m5_cond_l134 (v2 : Int) : Nat → Mu → Option (Mu)
  | 0, _ => none
  | n + 1, u =>
    (m5_onTop 3 u).bind fun x1 =>
    if (w32 x1) = 0 then
      if (w32 v2) = 0 then
        (m5_onTop 4 u).bind fun x2 =>
        if (w32 x2) = 0 then
          some u
        else
          m5_cond_b154 (m5_cond_l134 v2 n) v2 u
      else
        some u
    else
      m5_cond_b154 (m5_cond_l134 v2 n) v2 u
noncomputable def m5_cond_b199 (kh : Int → Mu → Option ((Mu) ⊕ (Mu) ⊕ (Mu))) (s1 : Int) (s2 : Int) (u : Mu) : Option ((Mu) ⊕ (Mu) ⊕ (Mu)) :=
  (mast u 48 4100 s1 s2).bind fun u1 =>
  (some (ms u1 49 ((u1.1 49) + 1))).bind fun u2 =>
  (m5_next u2).bind fun u3 =>
  kh 1 u3
noncomputable def m5_cond_b182 (kh : Int → Mu → Option ((Mu) ⊕ (Mu) ⊕ (Mu))) (v2 : Int) (u : Mu) : Option ((Mu) ⊕ (Mu) ⊕ (Mu)) :=
  if (w32 v2) = 0 then
    m5_cond_b199 (kh) (u.1 49) 4 u
  else
    m5_cond_b199 (kh) (u.1 49) 3 u
noncomputable def m5_cond_b123 (kh : Int → Mu → Option ((Mu) ⊕ (Mu) ⊕ (Mu))) (u : Mu) : Option ((Mu) ⊕ (Mu) ⊕ (Mu)) :=
  (m5_isWord 22 u).bind fun x1 =>
  (m5_countNode u).bind fun u2 =>
  (m5_cond_l134 x1 NN u2).bind fun q3 =>
  m5_cond_b182 (kh) x1 q3
noncomputable def m5_cond_b235 (kh : Mu → Option (Mu)) (v1 : Int) (u : Mu) : Option (Mu) :=
  (mald u 48 4100 ((u.1 49) - 1)).bind fun x1 =>
  (m5_emit x1 u).bind fun u2 =>
  (some (ms u2 49 ((u2.1 49) - 1))).bind fun u3 =>
  kh u3
noncomputable def m5_cond_l219 (v1 : Int) : Nat → Mu → Option (Mu)
  | 0, _ => none
  | n + 1, u =>
    (m5_onTop 3 u).bind fun x1 =>
    if (w32 x1) = 0 then
      (m5_onTop 4 u).bind fun x2 =>
      if (w32 x2) = 0 then
        some u
      else
        m5_cond_b235 (m5_cond_l219 v1 n) v1 u
    else
      m5_cond_b235 (m5_cond_l219 v1 n) v1 u
noncomputable def m5_cond_l12 : Nat → Int → Mu → Option ((Mu) ⊕ (Mu) ⊕ (Mu))
  | 0, _, _ => none
  | n + 1, v1, u =>
    if (w32 (u.1 8)) = 0 then
      if (w32 v1) = 0 then
        (m5_isWord 22 u).bind fun x1 =>
        if (w32 x1) = 0 then
          (m5_isWord 21 u).bind fun x2 =>
          if (w32 x2) = 0 then
            (m5_cond_l219 v1 NN u).bind fun q3 =>
            if (w32 (q3.1 49)) = 0 then
              some (.inl q3)
            else
              (m5_isSign 9 q3).bind fun x4 =>
              if (w32 x4) = 0 then
                some (.inr (.inl q3))
              else
                (some (ms q3 49 ((q3.1 49) - 1))).bind fun u5 =>
                (some (ms u5 50 ((u5.1 50) - 1))).bind fun u6 =>
                (m5_endPart u6).bind fun u7 =>
                (m5_next u7).bind fun u8 =>
                m5_cond_l12 n v1 u8
          else
            m5_cond_b123 (m5_cond_l12 n) u
        else
          m5_cond_b123 (m5_cond_l12 n) u
      else
        (m5_isWord 23 u).bind fun x13 =>
        if (w32 x13) = 0 then
          (m5_isSign 8 u).bind fun x14 =>
          if (w32 x14) = 0 then
            if (w32 (u.1 4)) = 1 then
              (m5_part u).bind fun u16 =>
              if (w32 (u16.1 8)) = 0 then
                (m5_endPart u16).bind fun u17 =>
                m5_cond_l12 n 0 u17
              else
                m5_cond_l12 n v1 u16
            else
              (m5_cannot u).bind fun u15 =>
              m5_cond_l12 n v1 u15
          else
            (m5_deeper 8 u).bind fun u20 =>
            (m5_next u20).bind fun u21 =>
            m5_cond_l12 n v1 u21
        else
          (m5_countNode u).bind fun u23 =>
          (m5_deeper 2 u23).bind fun u24 =>
          (m5_next u24).bind fun u25 =>
          m5_cond_l12 n v1 u25
    else
      some (.inr (.inr u))
noncomputable def m5_cond  (u : Mu) : Option (Mu) :=
  (some (ms u 49 0)).bind fun u1 =>
  (some (ms u1 50 0)).bind fun u2 =>
  (m5_cond_l12 NN 1 u2).bind
    (Sum.elim
      (fun q3 =>
        some q3)
      (Sum.elim
        (fun q4 =>
          (m5_cannot q4).bind fun u5 =>
          some u5)
        (fun q6 =>
          some q6)))
noncomputable def m5_wantsSign (v1 : Int) (u : Mu) : Option (Mu) :=
  if (w32 (u.1 8)) ≤ 0 then
    (m5_isSign v1 u).bind fun x1 =>
    if (w32 x1) = 0 then
      (m5_cannot u).bind fun u2 =>
      some u2
    else
      (m5_next u).bind fun u3 =>
      some u3
  else
    some u
noncomputable def m5_readClause  (u : Mu) : Option (Mu) :=
  (mast u 53 1400 (u.1 56) ((u.1 7) - 6)).bind fun u1 =>
  (m5_next u1).bind fun u2 =>
  (mast u2 54 1400 (u2.1 56) (u2.1 46)).bind fun u3 =>
  (m5_cond u3).bind fun u4 =>
  (mast u4 55 1400 (u4.1 56) (u4.1 46)).bind fun u5 =>
  (some (ms u5 56 ((u5.1 56) + 1))).bind fun u6 =>
  (m5_wantsSign 6 u6).bind fun u7 =>
  some u7
noncomputable def m5_newName_b47 (u : Mu) : Option (Mu) :=
  (m5_wrong 3 u).bind fun u1 =>
  some u1
noncomputable def m5_newName (v1 : Int) (v2 : Int) (u : Mu) : Option (Mu) :=
  if (w32 (u.1 8)) ≤ 0 then
    if (w32 (u.1 4)) = 1 then
      (m5_factOf 0 (u.1 6) u).bind fun x1 =>
      if 0 ≤ (w32 x1) then
        m5_newName_b47 u
      else
        (m5_meanOf 0 (u.1 6) u).bind fun x2 =>
        if (w32 x2) < 0 then
          if (w32 v1) = (w32 v2) then
            (m5_wrong 6 u).bind fun u3 =>
            some u3
          else
            some u
        else
          m5_newName_b47 u
    else
      (m5_cannot u).bind fun u7 =>
      some u7
  else
    some u
noncomputable def m5_readChoices_l2 (v1 : Int) : Nat → Int → Mu → Option (Mu)
  | 0, _, _ => none
  | n + 1, v2, u =>
    if (w32 v2) = 0 then
      some u
    else
      if (w32 (u.1 8)) = 0 then
        if (w32 (u.1 4)) = 1 then
          (m5_choiceOf v1 (u.1 6) u).bind fun x1 =>
          if (w32 x1) < 0 then
            (mald u 15 112 v1).bind fun x2 =>
            if (w32 x2) = 6 then
              (m5_wrong 6 u).bind fun u14 =>
              m5_readChoices_l2 v1 n v2 u14
            else
              (mald u 15 112 v1).bind fun x3 =>
              (mast u 16 672 ((6 * v1) + x3) (u.1 6)).bind fun u4 =>
              (mald u4 15 112 v1).bind fun x5 =>
              (mast u4 15 112 v1 (x5 + 1)).bind fun u6 =>
              (m5_next u6).bind fun u7 =>
              (m5_isSign 7 u7).bind fun x8 =>
              if (w32 x8) = 0 then
                (mald u7 15 112 v1).bind fun x9 =>
                if (w32 x9) = 1 then
                  (m5_cannot u7).bind fun u10 =>
                  m5_readChoices_l2 v1 n x8 u10
                else
                  m5_readChoices_l2 v1 n x8 u7
              else
                (m5_next u7).bind fun u12 =>
                m5_readChoices_l2 v1 n x8 u12
          else
            (m5_wrong 3 u).bind fun u16 =>
            m5_readChoices_l2 v1 n v2 u16
        else
          (m5_cannot u).bind fun u18 =>
          m5_readChoices_l2 v1 n v2 u18
      else
        some u
noncomputable def m5_readChoices (v1 : Int) (u : Mu) : Option (Mu) :=
  (m5_readChoices_l2 v1 NN 1 u).bind fun q1 =>
  some q1
noncomputable def m5_wantsNumber_b38 (v1 : Int) (u : Mu) : Option (Int × Mu) :=
  (m5_wrong 5 u).bind fun u1 =>
  some (v1, u1)
noncomputable def m5_wantsNumber (v1 : Int) (v2 : Int) (u : Mu) : Option (Int × Mu) :=
  if (w32 (u.1 8)) ≤ 0 then
    if (w32 (u.1 4)) = 2 then
      if (w32 (u.1 7)) < (w32 v1) then
        m5_wantsNumber_b38 v1 u
      else
        if (w32 (u.1 7)) ≤ (w32 v2) then
          (m5_next u).bind fun u1 =>
          some ((u.1 7), u1)
        else
          m5_wantsNumber_b38 v1 u
    else
      (m5_cannot u).bind fun u4 =>
      some (v1, u4)
  else
    some (v1, u)
noncomputable def m5_wantsWord (v1 : Int) (u : Mu) : Option (Mu) :=
  if (w32 (u.1 8)) ≤ 0 then
    (m5_isWord v1 u).bind fun x1 =>
    if (w32 x1) = 0 then
      (m5_cannot u).bind fun u2 =>
      some u2
    else
      (m5_next u).bind fun u3 =>
      some u3
  else
    some u
noncomputable def m5_readFact_b208 (u : Mu) : Option (Mu) :=
  (m5_wantsSign 6 u).bind fun u1 =>
  some u1
noncomputable def m5_readFact  (u : Mu) : Option (Mu) :=
  (mald u 12 14 0).bind fun x1 =>
  (m5_newName x1 8 u).bind fun u2 =>
  if (w32 (u2.1 8)) ≤ 0 then
    (mald u2 12 14 0).bind fun x3 =>
    (mast u2 13 112 x3 (u2.1 6)).bind fun u4 =>
    (mast u4 15 112 x3 0).bind fun u5 =>
    (mald u5 12 14 0).bind fun x6 =>
    (mast u5 12 14 0 (x6 + 1)).bind fun u7 =>
    (m5_next u7).bind fun u8 =>
    (m5_isWord 1 u8).bind fun x9 =>
    if (w32 x9) = 0 then
      (m5_isWord 2 u8).bind fun x10 =>
      if (w32 x10) = 0 then
        (m5_isWord 3 u8).bind fun x11 =>
        if (w32 x11) = 0 then
          (m5_cannot u8).bind fun u12 =>
          m5_readFact_b208 u12
        else
          (mast u8 14 112 x3 2).bind fun u13 =>
          (m5_next u13).bind fun u14 =>
          (m5_wantsNumber 0 999999999 u14).bind fun q15 =>
          (mast q15.2 17 112 x3 q15.1).bind fun u16 =>
          (m5_wantsWord 4 u16).bind fun u17 =>
          (mald u17 17 112 x3).bind fun x18 =>
          (m5_wantsNumber (x18 + 1) 999999999 u17).bind fun q19 =>
          (mast q19.2 18 112 x3 q19.1).bind fun u20 =>
          m5_readFact_b208 u20
      else
        (mast u8 14 112 x3 1).bind fun u22 =>
        (m5_next u22).bind fun u23 =>
        (m5_readChoices x3 u23).bind fun u24 =>
        (mast u24 17 112 x3 0).bind fun u25 =>
        (mald u25 15 112 x3).bind fun x26 =>
        (mast u25 18 112 x3 (x26 - 1)).bind fun u27 =>
        m5_readFact_b208 u27
    else
      (mast u8 14 112 x3 0).bind fun u29 =>
      (mast u29 17 112 x3 0).bind fun u30 =>
      (mast u30 18 112 x3 1).bind fun u31 =>
      (m5_next u31).bind fun u32 =>
      m5_readFact_b208 u32
  else
    some u2
noncomputable def m5_readMean  (u : Mu) : Option (Mu) :=
  (mald u 19 14 0).bind fun x1 =>
  (m5_newName x1 12 u).bind fun u2 =>
  if (w32 (u2.1 8)) ≤ 0 then
    (mald u2 19 14 0).bind fun x3 =>
    (mast u2 20 168 x3 (u2.1 6)).bind fun u4 =>
    (m5_next u4).bind fun u5 =>
    (m5_wantsSign 0 u5).bind fun u6 =>
    (mast u6 21 168 x3 (u6.1 46)).bind fun u7 =>
    (m5_cond u7).bind fun u8 =>
    (mast u8 22 168 x3 (u8.1 46)).bind fun u9 =>
    (mald u9 19 14 0).bind fun x10 =>
    (mast u9 19 14 0 (x10 + 1)).bind fun u11 =>
    (m5_wantsSign 6 u11).bind fun u12 =>
    some u12
  else
    some u2
noncomputable def m5_readSum (v1 : Int) (v2 : Int) (u : Mu) : Option (Mu) :=
  (mald u 32 70 v1).bind fun x1 =>
  if (w32 x1) = (-3) then
    (mast u 32 70 v1 v2).bind fun u2 =>
    (m5_next u2).bind fun u3 =>
    (m5_wantsSign 6 u3).bind fun u4 =>
    some u4
  else
    (m5_wrong 6 u).bind fun u5 =>
    some u5
noncomputable def m5_readMost_b61 (v1 : Int) (s0 : Int) (u : Mu) : Option (Mu) :=
  if 0 ≤ (w32 s0) then
    (m5_readSum s0 v1 u).bind fun u1 =>
    some u1
  else
    (m5_cannot u).bind fun u2 =>
    some u2
noncomputable def m5_readMost  (u : Mu) : Option (Mu) :=
  (m5_next u).bind fun u1 =>
  (m5_wantsNumber 0 99999999 u1).bind fun q2 =>
  if (w32 (q2.2.1 8)) ≤ 0 then
    (m5_isWord 12 q2.2).bind fun x3 =>
    if (w32 x3) = 0 then
      (m5_isWord 13 q2.2).bind fun x4 =>
      if (w32 x4) = 0 then
        (m5_isWord 14 q2.2).bind fun x5 =>
        if (w32 x5) = 0 then
          m5_readMost_b61 q2.1 (-1) q2.2
        else
          m5_readMost_b61 q2.1 4 q2.2
      else
        m5_readMost_b61 q2.1 3 q2.2
    else
      m5_readMost_b61 q2.1 2 q2.2
  else
    some q2.2
noncomputable def m5_readPrice_b54 (kh : Int → Int → Option (Int)) (v1 : Int) (v2 : Int) (v4 : Int) (s0 : Int) (s1 : Int) (u : Mu) : Option (Int) :=
  kh (s0 + s1) (v4 + (-1))
noncomputable def m5_readPrice_l19 (v1 : Int) (v2 : Int) (u : Mu) : Nat → Int → Int → Option (Int)
  | 0, _, _ => none
  | n + 1, v3, v4 =>
    if (w32 v4) < 0 then
      some v3
    else
      (mald u 28 336 v4).bind fun x1 =>
      if (w32 x1) = 18 then
        some v3
      else
        (mald u 28 336 v4).bind fun x2 =>
        if (w32 x2) = 16 then
          m5_readPrice_b54 (m5_readPrice_l19 v1 v2 u n) v1 v2 v4 v3 1 u
        else
          m5_readPrice_b54 (m5_readPrice_l19 v1 v2 u n) v1 v2 v4 v3 0 u
noncomputable def m5_readPrice_b79 (u : Mu) : Option (Mu) :=
  (m5_wrong 6 u).bind fun u1 =>
  some u1
noncomputable def m5_readPrice_b191 (v2 : Int) (u : Mu) : Option (Mu) :=
  (mast u 31 336 v2 (u.1 46)).bind fun u1 =>
  (mald u1 27 14 0).bind fun x2 =>
  (mast u1 27 14 0 (x2 + 1)).bind fun u3 =>
  (m5_wantsSign 6 u3).bind fun u4 =>
  some u4
noncomputable def m5_readPrice_b174 (v2 : Int) (u : Mu) : Option (Mu) :=
  (m5_isWord 20 u).bind fun x1 =>
  if (w32 x1) = 0 then
    m5_readPrice_b191 v2 u
  else
    (m5_next u).bind fun u2 =>
    (m5_cond u2).bind fun u3 =>
    m5_readPrice_b191 v2 u3
noncomputable def m5_readPrice_b144 (v1 : Int) (v2 : Int) (s1 : Int) (s2 : Int) (u : Mu) : Option (Mu) :=
  (mast u 29 336 s1 s2).bind fun u1 =>
  (mast u1 30 336 v2 (u1.1 46)).bind fun u2 =>
  if (w32 (u2.1 8)) = 0 then
    if (w32 v1) = 16 then
      m5_readPrice_b174 v2 u2
    else
      if (w32 v1) = 17 then
        m5_readPrice_b174 v2 u2
      else
        m5_readPrice_b191 v2 u2
  else
    m5_readPrice_b191 v2 u2
noncomputable def m5_readPrice_b86 (v1 : Int) (v2 : Int) (u : Mu) : Option (Mu) :=
  (m5_next u).bind fun u1 =>
  (mast u1 28 336 v2 v1).bind fun u2 =>
  if (w32 v1) = 16 then
    (m5_wantsNumber 0 3000 u2).bind fun q6 =>
    m5_readPrice_b144 v1 v2 v2 q6.1 q6.2
  else
    if (w32 v1) = 18 then
      (m5_wantsNumber 1 100000 u2).bind fun q4 =>
      m5_readPrice_b144 v1 v2 v2 q4.1 q4.2
    else
      (m5_wantsNumber 0 9999999 u2).bind fun q3 =>
      m5_readPrice_b144 v1 v2 v2 q3.1 q3.2
noncomputable def m5_readPrice_b62 (v1 : Int) (v2 : Int) (v3 : Int) (u : Mu) : Option (Mu) :=
  if (w32 v2) = 24 then
    m5_readPrice_b79 u
  else
    if (w32 v1) = 16 then
      if (w32 v3) = 3 then
        m5_readPrice_b79 u
      else
        m5_readPrice_b86 v1 v2 u
    else
      m5_readPrice_b86 v1 v2 u
noncomputable def m5_readPrice  (u : Mu) : Option (Mu) :=
  (mald u 27 14 0).bind fun x1 =>
  (m5_readPrice_l19 (u.1 7) x1 u NN 0 (x1 - 1)).bind fun q2 =>
  m5_readPrice_b62 (u.1 7) x1 q2 u
noncomputable def m5_readStatement_b149 (s1 : Int) (s3 : Int) (s4 : Int) (u : Mu) : Option (Mu) :=
  (m5_wantsNumber s3 s4 u).bind fun q1 =>
  (mast q1.2 32 70 s1 q1.1).bind fun u2 =>
  (m5_wantsSign 6 u2).bind fun u3 =>
  some u3
noncomputable def m5_readStatement_b104 (v1 : Int) (s0 : Int) (u : Mu) : Option (Mu) :=
  (mald u 32 70 s0).bind fun x1 =>
  if (w32 x1) = (-3) then
    (m5_next u).bind fun u2 =>
    if (w32 v1) = 9 then
      m5_readStatement_b149 s0 0 99999999 u2
    else
      m5_readStatement_b149 s0 0 1000 u2
  else
    (m5_wrong 6 u).bind fun u4 =>
    some u4
noncomputable def m5_readStatement_b93 (v1 : Int) (u : Mu) : Option (Mu) :=
  if (w32 v1) = 9 then
    m5_readStatement_b104 v1 0 u
  else
    m5_readStatement_b104 v1 1 u
noncomputable def m5_readStatement_b194 (u : Mu) : Option (Mu) :=
  (m5_cannot u).bind fun u1 =>
  some u1
noncomputable def m5_readStatement  (u : Mu) : Option (Mu) :=
  if (w32 (u.1 4)) = 4 then
    if (w32 (u.1 7)) = 0 then
      (m5_next u).bind fun u16 =>
      (m5_readFact u16).bind fun u17 =>
      some u17
    else
      if (w32 (u.1 7)) = 5 then
        (m5_next u).bind fun u13 =>
        (m5_readMean u13).bind fun u14 =>
        some u14
      else
        (m5_isClause u).bind fun x1 =>
        if (w32 x1) = 0 then
          if (w32 (u.1 7)) = 9 then
            m5_readStatement_b93 (u.1 7) u
          else
            if (w32 (u.1 7)) = 10 then
              m5_readStatement_b93 (u.1 7) u
            else
              if (w32 (u.1 7)) = 11 then
                (m5_readMost u).bind fun u5 =>
                some u5
              else
                if (w32 (u.1 7)) < 15 then
                  m5_readStatement_b194 u
                else
                  if 19 < (w32 (u.1 7)) then
                    m5_readStatement_b194 u
                  else
                    (m5_readPrice u).bind fun u2 =>
                    some u2
        else
          if (w32 (u.1 56)) = 24 then
            (m5_wrong 6 u).bind fun u10 =>
            some u10
          else
            (m5_readClause u).bind fun u9 =>
            some u9
  else
    (m5_cannot u).bind fun u19 =>
    some u19
noncomputable def m5_takeNodes_l3 (v1 : Int) (v3 : Int) : Nat → Int → Mu → Option (Mu)
  | 0, _, _ => none
  | n + 1, v4, u =>
    if (w32 v3) ≤ (w32 v4) then
      some u
    else
      (mald u 33 14 v1).bind fun x1 =>
      (mald u 42 4100 v4).bind fun x2 =>
      (mast u 34 33600 ((2400 * v1) + x1) (w8 x2)).bind fun u3 =>
      (mald u3 43 4100 v4).bind fun x4 =>
      (mast u3 35 33600 ((2400 * v1) + x1) (w8 x4)).bind fun u5 =>
      (mald u5 44 4100 v4).bind fun x6 =>
      (mast u5 36 33600 ((2400 * v1) + x1) (w8 x6)).bind fun u7 =>
      (mald u7 45 4100 v4).bind fun x8 =>
      (mast u7 37 33600 ((2400 * v1) + x1) x8).bind fun u9 =>
      (mald u9 33 14 v1).bind fun x10 =>
      (mast u9 33 14 v1 (x10 + 1)).bind fun u11 =>
      m5_takeNodes_l3 v1 v3 n (v4 + 1) u11
noncomputable def m5_takeNodes (v1 : Int) (v2 : Int) (v3 : Int) (u : Mu) : Option (Mu) :=
  (m5_takeNodes_l3 v1 v3 NN v2 u).bind fun q1 =>
  some q1
noncomputable def m5_wording_l25 : Nat → Mu → Option (Mu)
  | 0, _ => none
  | n + 1, u =>
    if (w32 (u.1 4)) = 0 then
      some u
    else
      if (w32 (u.1 8)) = 0 then
        (m5_readStatement u).bind fun u1 =>
        m5_wording_l25 n u1
      else
        some u
noncomputable def m5_wording_b286 (v1 : Int) (v2 : Int) (u : Mu) : Option (Int × Mu) :=
  if 0 ≤ (w32 v2) then
    some (v1, u)
  else
    some (v2, u)
noncomputable def m5_wording_b267 (v1 : Int) (u : Mu) : Option (Int × Mu) :=
  (m5_ended u).bind fun q1 =>
  if (w32 q1.1) = 0 then
    (some (ms q1.2 11 ((q1.2.1 11) + 1))).bind fun u2 =>
    m5_wording_b286 v1 q1.1 u2
  else
    m5_wording_b286 v1 q1.1 q1.2
noncomputable def m5_wording_l83 (v1 : Int) : Nat → Int → Mu → Option (Mu)
  | 0, _, _ => none
  | n + 1, v2, u =>
    (mald u 19 14 0).bind fun x1 =>
    if (w32 x1) ≤ (w32 v2) then
      some u
    else
      (mald u 21 168 v2).bind fun x2 =>
      (mast u 21 168 ((12 * v1) + v2) x2).bind fun u3 =>
      (mald u3 22 168 v2).bind fun x4 =>
      (mast u3 22 168 ((12 * v1) + v2) x4).bind fun u5 =>
      m5_wording_l83 v1 n (v2 + 1) u5
noncomputable def m5_wording_l145 (v1 : Int) : Nat → Int → Mu → Option (Mu)
  | 0, _, _ => none
  | n + 1, v2, u =>
    if (w32 (u.1 56)) ≤ (w32 v2) then
      some u
    else
      (mald u 53 1400 v2).bind fun x1 =>
      (mast u 24 336 ((24 * v1) + v2) x1).bind fun u2 =>
      (mald u2 54 1400 v2).bind fun x3 =>
      (mast u2 25 336 ((24 * v1) + v2) x3).bind fun u4 =>
      (mald u4 55 1400 v2).bind fun x5 =>
      (mast u4 26 336 ((24 * v1) + v2) x5).bind fun u6 =>
      m5_wording_l145 v1 n (v2 + 1) u6
noncomputable def m5_wording_l212 (v1 : Int) : Nat → Int → Mu → Option (Mu)
  | 0, _, _ => none
  | n + 1, v2, u =>
    (mald u 27 14 0).bind fun x1 =>
    if (w32 x1) ≤ (w32 v2) then
      some u
    else
      (mald u 30 336 v2).bind fun x2 =>
      (mast u 30 336 ((24 * v1) + v2) x2).bind fun u3 =>
      (mald u3 31 336 v2).bind fun x4 =>
      (mast u3 31 336 ((24 * v1) + v2) x4).bind fun u5 =>
      m5_wording_l212 v1 n (v2 + 1) u5
noncomputable def m5_wording_b46 (u : Mu) : Option (Int × Mu) :=
  if (w32 (u.1 8)) = 0 then
    (m5_clear ((u.1 11) + 1) u).bind fun u1 =>
    (m5_copyWording ((u.1 11) + 1) 0 u1).bind fun u2 =>
    (m5_takeNodes ((u.1 11) + 1) 0 (u2.1 46) u2).bind fun u3 =>
    (m5_wording_l83 ((u.1 11) + 1) NN 0 u3).bind fun q4 =>
    (mast q4 23 14 ((u.1 11) + 1) (q4.1 56)).bind fun u5 =>
    (m5_wording_l145 ((u.1 11) + 1) NN 0 u5).bind fun q6 =>
    (m5_wording_l212 ((u.1 11) + 1) NN 0 q6).bind fun q7 =>
    (m5_finish ((u.1 11) + 1) q7).bind fun u8 =>
    m5_wording_b267 ((u.1 11) + 1) u8
  else
    m5_wording_b267 ((u.1 11) + 1) u
noncomputable def m5_wording  (u : Mu) : Option (Int × Mu) :=
  if (w32 (u.1 11)) = 12 then
    some ((-4), u)
  else
    (m5_clear 0 u).bind fun u1 =>
    (m5_beginText 0 300 u1).bind fun u2 =>
    (m5_wording_l25 NN u2).bind fun q3 =>
    m5_wording_b46 q3
noncomputable def m5_copyNodes_l3 (v1 : Int) (v2 : Int) (v4 : Int) : Nat → Int → Mu → Option (Mu)
  | 0, _, _ => none
  | n + 1, v5, u =>
    if (w32 v4) ≤ (w32 v5) then
      some u
    else
      (mald u 33 14 v1).bind fun x1 =>
      (mald u 34 33600 ((2400 * v2) + v5)).bind fun x2 =>
      (mast u 34 33600 ((2400 * v1) + x1) (w8 x2)).bind fun u3 =>
      (mald u3 35 33600 ((2400 * v2) + v5)).bind fun x4 =>
      (mast u3 35 33600 ((2400 * v1) + x1) (w8 x4)).bind fun u5 =>
      (mald u5 36 33600 ((2400 * v2) + v5)).bind fun x6 =>
      (mast u5 36 33600 ((2400 * v1) + x1) (w8 x6)).bind fun u7 =>
      (mald u7 37 33600 ((2400 * v2) + v5)).bind fun x8 =>
      (mast u7 37 33600 ((2400 * v1) + x1) x8).bind fun u9 =>
      (mald u9 33 14 v1).bind fun x10 =>
      (mast u9 33 14 v1 (x10 + 1)).bind fun u11 =>
      m5_copyNodes_l3 v1 v2 v4 n (v5 + 1) u11
noncomputable def m5_copyNodes (v1 : Int) (v2 : Int) (v3 : Int) (v4 : Int) (u : Mu) : Option (Mu) :=
  (m5_copyNodes_l3 v1 v2 v4 NN v3 u).bind fun q1 =>
  some q1
noncomputable def m5_putClause (v1 : Int) (v2 : Int) (u : Mu) : Option (Mu) :=
  (mald u 23 14 v1).bind fun x1 =>
  (mald u 53 1400 v2).bind fun x2 =>
  (mast u 24 336 ((24 * v1) + x1) x2).bind fun u3 =>
  (mald u3 23 14 v1).bind fun x4 =>
  (mald u3 33 14 v1).bind fun x5 =>
  (mast u3 25 336 ((24 * v1) + x4) x5).bind fun u6 =>
  (mald u6 54 1400 v2).bind fun x7 =>
  (mald u6 55 1400 v2).bind fun x8 =>
  (m5_takeNodes v1 x7 x8 u6).bind fun u9 =>
  (mald u9 23 14 v1).bind fun x10 =>
  (mald u9 33 14 v1).bind fun x11 =>
  (mast u9 26 336 ((24 * v1) + x10) x11).bind fun u12 =>
  (mald u12 23 14 v1).bind fun x13 =>
  (mast u12 23 14 v1 (x13 + 1)).bind fun u14 =>
  some u14
noncomputable def m5_join_b84 (kh : Int → Int → Int → Option (Int × Int)) (v1 : Int) (v2 : Int) (v3 : Int) (v5 : Int) (s0 : Int) (s1 : Int) (u : Mu) : Option (Int × Int) :=
  kh v3 (s0 + s1) (v5 + 1)
noncomputable def m5_join_b40 (kh : Int → Int → Int → Option (Int × Int)) (v1 : Int) (v2 : Int) (v4 : Int) (v5 : Int) (s0 : Int) (s1 : Int) (u : Mu) : Option (Int × Int) :=
  (mald u 57 24 v5).bind fun x1 =>
  if (w32 x1) = (-1) then
    (mald u 26 336 ((24 * v2) + v5)).bind fun x2 =>
    (mald u 25 336 ((24 * v2) + v5)).bind fun x3 =>
    m5_join_b84 (kh) v1 v2 (s0 + s1) v5 v4 (x2 - x3) u
  else
    m5_join_b84 (kh) v1 v2 (s0 + s1) v5 v4 0 u
noncomputable def m5_join_l11 (v1 : Int) (v2 : Int) (u : Mu) : Nat → Int → Int → Int → Option (Int × Int)
  | 0, _, _, _ => none
  | n + 1, v3, v4, v5 =>
    (mald u 23 14 v2).bind fun x1 =>
    if (w32 x1) ≤ (w32 v5) then
      some (v3, v4)
    else
      (mald u 57 24 v5).bind fun x2 =>
      if (w32 x2) = (-2) then
        m5_join_b40 (m5_join_l11 v1 v2 u n) v1 v2 v4 v5 v3 0 u
      else
        m5_join_b40 (m5_join_l11 v1 v2 u n) v1 v2 v4 v5 v3 1 u
noncomputable def m5_join_l96 (v1 : Int) (v2 : Int) (v3 : Int) (u : Mu) : Nat → Int → Int → Option (Int)
  | 0, _, _ => none
  | n + 1, v4, v5 =>
    (mald u 19 14 v2).bind fun x1 =>
    if (w32 x1) ≤ (w32 v5) then
      some v4
    else
      (mald u 22 168 ((12 * v2) + v5)).bind fun x2 =>
      (mald u 21 168 ((12 * v2) + v5)).bind fun x3 =>
      m5_join_l96 v1 v2 v3 u n (v4 + (x2 - x3)) (v5 + 1)
noncomputable def m5_join_l146 (v1 : Int) (v2 : Int) (v3 : Int) (u : Mu) : Nat → Int → Int → Option (Int)
  | 0, _, _ => none
  | n + 1, v4, v5 =>
    (mald u 27 14 v2).bind fun x1 =>
    if (w32 x1) ≤ (w32 v5) then
      some v4
    else
      (mald u 31 336 ((24 * v2) + v5)).bind fun x2 =>
      (mald u 30 336 ((24 * v2) + v5)).bind fun x3 =>
      m5_join_l146 v1 v2 v3 u n (v4 + (x2 - x3)) (v5 + 1)
noncomputable def m5_join_b221 (kh : Int → Int → Option (Int)) (v1 : Int) (v2 : Int) (v4 : Int) (v5 : Int) (s0 : Int) (s1 : Int) (u : Mu) : Option (Int) :=
  kh (s0 + s1) (v5 + 1)
noncomputable def m5_join_l196 (v1 : Int) (v2 : Int) (v4 : Int) (u : Mu) : Nat → Int → Int → Option (Int)
  | 0, _, _ => none
  | n + 1, v3, v5 =>
    if (w32 (u.1 56)) ≤ (w32 v5) then
      some v3
    else
      (mald u 58 1400 v5).bind fun x1 =>
      if (w32 x1) = 0 then
        m5_join_b221 (m5_join_l196 v1 v2 v4 u n) v1 v2 v4 v5 v3 1 u
      else
        m5_join_b221 (m5_join_l196 v1 v2 v4 u n) v1 v2 v4 v5 v3 0 u
noncomputable def m5_join_b243 (u : Mu) : Option (Mu) :=
  (m5_wrong 6 u).bind fun u1 =>
  some u1
noncomputable def m5_join_l264 (v1 : Int) (v2 : Int) : Nat → Int → Mu → Option (Mu)
  | 0, _, _ => none
  | n + 1, v5, u =>
    (mald u 19 14 v2).bind fun x1 =>
    if (w32 x1) ≤ (w32 v5) then
      some u
    else
      (mald u 33 14 v1).bind fun x2 =>
      (mast u 21 168 ((12 * v1) + v5) x2).bind fun u3 =>
      (mald u3 21 168 ((12 * v2) + v5)).bind fun x4 =>
      (mald u3 22 168 ((12 * v2) + v5)).bind fun x5 =>
      (m5_copyNodes v1 v2 x4 x5 u3).bind fun u6 =>
      (mald u6 33 14 v1).bind fun x7 =>
      (mast u6 22 168 ((12 * v1) + v5) x7).bind fun u8 =>
      m5_join_l264 v1 v2 n (v5 + 1) u8
noncomputable def m5_join_l350 (v1 : Int) (v2 : Int) : Nat → Int → Mu → Option (Mu)
  | 0, _, _ => none
  | n + 1, v5, u =>
    (mald u 23 14 v2).bind fun x1 =>
    if (w32 x1) ≤ (w32 v5) then
      some u
    else
      (mald u 57 24 v5).bind fun x2 =>
      if (w32 x2) = (-1) then
        (mald u 23 14 v1).bind fun x7 =>
        (mald u 24 336 ((24 * v2) + v5)).bind fun x8 =>
        (mast u 24 336 ((24 * v1) + x7) x8).bind fun u9 =>
        (mald u9 23 14 v1).bind fun x10 =>
        (mald u9 33 14 v1).bind fun x11 =>
        (mast u9 25 336 ((24 * v1) + x10) x11).bind fun u12 =>
        (mald u12 25 336 ((24 * v2) + v5)).bind fun x13 =>
        (mald u12 26 336 ((24 * v2) + v5)).bind fun x14 =>
        (m5_copyNodes v1 v2 x13 x14 u12).bind fun u15 =>
        (mald u15 23 14 v1).bind fun x16 =>
        (mald u15 33 14 v1).bind fun x17 =>
        (mast u15 26 336 ((24 * v1) + x16) x17).bind fun u18 =>
        (mald u18 23 14 v1).bind fun x19 =>
        (mast u18 23 14 v1 (x19 + 1)).bind fun u20 =>
        m5_join_l350 v1 v2 n (v5 + 1) u20
      else
        (mald u 57 24 v5).bind fun x3 =>
        if (w32 x3) < 0 then
          m5_join_l350 v1 v2 n (v5 + 1) u
        else
          (mald u 57 24 v5).bind fun x4 =>
          (m5_putClause v1 x4 u).bind fun u5 =>
          m5_join_l350 v1 v2 n (v5 + 1) u5
noncomputable def m5_join_l518 (v1 : Int) (v2 : Int) : Nat → Int → Mu → Option (Mu)
  | 0, _, _ => none
  | n + 1, v5, u =>
    if (w32 (u.1 56)) ≤ (w32 v5) then
      some u
    else
      (mald u 58 1400 v5).bind fun x1 =>
      if (w32 x1) = 0 then
        (m5_putClause v1 v5 u).bind fun u2 =>
        m5_join_l518 v1 v2 n (v5 + 1) u2
      else
        m5_join_l518 v1 v2 n (v5 + 1) u
noncomputable def m5_join_l553 (v1 : Int) (v2 : Int) : Nat → Int → Mu → Option (Mu)
  | 0, _, _ => none
  | n + 1, v5, u =>
    (mald u 27 14 v2).bind fun x1 =>
    if (w32 x1) ≤ (w32 v5) then
      some u
    else
      (mald u 33 14 v1).bind fun x2 =>
      (mast u 30 336 ((24 * v1) + v5) x2).bind fun u3 =>
      (mald u3 30 336 ((24 * v2) + v5)).bind fun x4 =>
      (mald u3 31 336 ((24 * v2) + v5)).bind fun x5 =>
      (m5_copyNodes v1 v2 x4 x5 u3).bind fun u6 =>
      (mald u6 33 14 v1).bind fun x7 =>
      (mast u6 31 336 ((24 * v1) + v5) x7).bind fun u8 =>
      m5_join_l553 v1 v2 n (v5 + 1) u8
noncomputable def m5_join (v1 : Int) (v2 : Int) (u : Mu) : Option (Mu) :=
  (m5_join_l11 v1 v2 u NN 0 (u.1 46) 0).bind fun q1 =>
  (m5_join_l96 v1 v2 q1.1 u NN q1.2 0).bind fun q2 =>
  (m5_join_l146 v1 v2 q1.1 u NN q2 0).bind fun q3 =>
  (m5_join_l196 v1 v2 q3 u NN q1.1 0).bind fun q4 =>
  if 24 < (w32 q4) then
    m5_join_b243 u
  else
    if (w32 q3) ≤ 300 then
      (m5_clear v1 u).bind fun u5 =>
      (m5_copyWording v1 v2 u5).bind fun u6 =>
      (m5_join_l264 v1 v2 NN 0 u6).bind fun q7 =>
      (m5_join_l350 v1 v2 NN 0 q7).bind fun q8 =>
      (m5_join_l518 v1 v2 NN 0 q8).bind fun q9 =>
      (m5_join_l553 v1 v2 NN 0 q9).bind fun q10 =>
      (m5_finish v1 q10).bind fun u11 =>
      some u11
    else
      m5_join_b243 u
noncomputable def m5_endorse_l37 (v1 : Int) : Nat → Int → Mu → Option (Mu)
  | 0, _, _ => none
  | n + 1, v2, u =>
    (mald u 23 14 v1).bind fun x1 =>
    if (w32 x1) ≤ (w32 v2) then
      some u
    else
      (mast u 57 24 v2 (-1)).bind fun u2 =>
      m5_endorse_l37 v1 n (v2 + 1) u2
noncomputable def m5_endorse_b207 (kh : Mu → Option ((Mu) ⊕ (Mu))) (v1 : Int) (v3 : Int) (s1 : Int) (s2 : Int) (u : Mu) : Option ((Mu) ⊕ (Mu)) :=
  (mast u 57 24 s1 s2).bind fun u1 =>
  if (w32 v3) = 0 then
    (m5_isClause u1).bind fun x2 =>
    if (w32 x2) = 0 then
      (m5_cannot u1).bind fun u3 =>
      kh u3
    else
      (mast u1 58 1400 (u1.1 56) (nz 1)).bind fun u4 =>
      (m5_readClause u4).bind fun u5 =>
      kh u5
  else
    (m5_wantsSign 6 u1).bind fun u7 =>
    kh u7
noncomputable def m5_endorse_b166 (kh : Mu → Option ((Mu) ⊕ (Mu))) (v1 : Int) (v3 : Int) (u : Mu) : Option ((Mu) ⊕ (Mu)) :=
  (m5_wantsNumber 0 999999999 u).bind fun q1 =>
  if (w32 (q1.2.1 8)) ≤ 0 then
    if (w32 v3) = 0 then
      m5_endorse_b207 (kh) v1 v3 (q1.1 - 1) (q1.2.1 56) q1.2
    else
      m5_endorse_b207 (kh) v1 v3 (q1.1 - 1) (-2) q1.2
  else
    some (.inl q1.2)
noncomputable def m5_endorse_b161 (kh : Mu → Option ((Mu) ⊕ (Mu))) (v1 : Int) (v3 : Int) (u : Mu) : Option ((Mu) ⊕ (Mu)) :=
  (m5_wrong 5 u).bind fun u1 =>
  m5_endorse_b166 (kh) v1 v3 u1
noncomputable def m5_endorse_b121 (kh : Mu → Option ((Mu) ⊕ (Mu))) (v1 : Int) (v3 : Int) (s0 : Int) (u : Mu) : Option ((Mu) ⊕ (Mu)) :=
  if (w32 (u.1 4)) = 2 then
    if (w32 s0) < 1 then
      m5_endorse_b161 (kh) v1 v3 u
    else
      (mald u 23 14 v1).bind fun x1 =>
      if (w32 x1) < (w32 s0) then
        m5_endorse_b161 (kh) v1 v3 u
      else
        (mald u 57 24 (s0 - 1)).bind fun x2 =>
        if (w32 x2) = (-1) then
          m5_endorse_b166 (kh) v1 v3 u
        else
          m5_endorse_b161 (kh) v1 v3 u
  else
    m5_endorse_b166 (kh) v1 v3 u
noncomputable def m5_endorse_b94 (kh : Mu → Option ((Mu) ⊕ (Mu))) (v1 : Int) (u : Mu) : Option ((Mu) ⊕ (Mu)) :=
  (m5_isWord 24 u).bind fun x1 =>
  (m5_next u).bind fun u2 =>
  if (w32 (u2.1 4)) = 2 then
    m5_endorse_b121 (kh) v1 x1 (u2.1 7) u2
  else
    m5_endorse_b121 (kh) v1 x1 0 u2
noncomputable def m5_endorse_l62 (v1 : Int) : Nat → Mu → Option ((Mu) ⊕ (Mu))
  | 0, _ => none
  | n + 1, u =>
    if (w32 (u.1 4)) = 0 then
      some (.inr u)
    else
      if (w32 (u.1 8)) = 0 then
        (m5_isWord 24 u).bind fun x1 =>
        if (w32 x1) = 0 then
          (m5_isWord 25 u).bind fun x2 =>
          if (w32 x2) = 0 then
            (m5_isClause u).bind fun x3 =>
            if (w32 x3) = 0 then
              (m5_cannot u).bind fun u4 =>
              m5_endorse_l62 v1 n u4
            else
              (mast u 58 1400 (u.1 56) (nz 0)).bind fun u5 =>
              (m5_readClause u5).bind fun u6 =>
              m5_endorse_l62 v1 n u6
          else
            m5_endorse_b94 (m5_endorse_l62 v1 n) v1 u
        else
          m5_endorse_b94 (m5_endorse_l62 v1 n) v1 u
      else
        some (.inr u)
noncomputable def m5_endorse_b324 (v3 : Int) (v4 : Int) (u : Mu) : Option (Int × Mu) :=
  if 0 ≤ (w32 v4) then
    some (v3, u)
  else
    some (v4, u)
noncomputable def m5_endorse_b303 (v3 : Int) (u : Mu) : Option (Int × Mu) :=
  (m5_ended u).bind fun q1 =>
  if (w32 q1.1) = 0 then
    (some (ms q1.2 11 ((q1.2.1 11) + 1))).bind fun u2 =>
    m5_endorse_b324 v3 q1.1 u2
  else
    m5_endorse_b324 v3 q1.1 q1.2
noncomputable def m5_endorse_b283 (v1 : Int) (u : Mu) : Option (Int × Mu) :=
  if (w32 (u.1 8)) = 0 then
    (m5_join ((u.1 11) + 1) v1 u).bind fun u1 =>
    m5_endorse_b303 ((u.1 11) + 1) u1
  else
    m5_endorse_b303 ((u.1 11) + 1) u
noncomputable def m5_endorse (v1 : Int) (u : Mu) : Option (Int × Mu) :=
  if (w32 v1) < 1 then
    some ((-1), u)
  else
    if (w32 v1) ≤ (w32 (u.1 11)) then
      if (w32 (u.1 11)) = 12 then
        some ((-4), u)
      else
        (m5_beginText v1 5000 u).bind fun u1 =>
        (m5_endorse_l37 v1 NN 0 u1).bind fun q2 =>
        (m5_endorse_l62 v1 NN q2).bind
          (Sum.elim
            (fun q3 =>
              m5_endorse_b283 v1 q3)
            (fun q4 =>
              m5_endorse_b283 v1 q4))
    else
      some ((-1), u)
noncomputable def m5_isWording (v1 : Int) (u : Mu) : Option (Int) :=
  if (w32 v1) < 1 then
    some 0
  else
    if (w32 (u.1 11)) < (w32 v1) then
      some 0
    else
      some 1
noncomputable def m5_wordingPart (v1 : Int) (v2 : Int) (u : Mu) : Option (Int) :=
  (m5_isWording v1 u).bind fun x1 =>
  if (w32 x1) = 0 then
    some (-1)
  else
    if (w32 v2) = 0 then
      (mald u 12 14 v1).bind fun x3 =>
      some x3
    else
    if (w32 v2) = 1 then
      (mald u 23 14 v1).bind fun x5 =>
      some x5
    else
    if (w32 v2) = 2 then
      (mald u 27 14 v1).bind fun x7 =>
      some x7
    else
    if (w32 v2) = 3 then
      (mald u 40 14 v1).bind fun x9 =>
      some x9
    else
    if (w32 v2) = 4 then
      (mald u 33 14 v1).bind fun x11 =>
      some x11
    else
      if (w32 v2) < 5 then
        some (-2)
      else
        if 9 < (w32 v2) then
          some (-2)
        else
          (mald u 32 70 (((5 * v1) + v2) - 5)).bind fun x12 =>
          some x12
noncomputable def m5_factPart (v1 : Int) (v2 : Int) (v3 : Int) (u : Mu) : Option (Int) :=
  (m5_isWording v1 u).bind fun x1 =>
  if (w32 x1) = 0 then
    some (-1)
  else
    if (w32 v2) < 0 then
      some (-1)
    else
      (mald u 12 14 v1).bind fun x2 =>
      if (w32 v2) < (w32 x2) then
        if (w32 v3) = 0 then
          (mald u 14 112 ((8 * v1) + v2)).bind fun x4 =>
          some x4
        else
        if (w32 v3) = 1 then
          (mald u 14 112 ((8 * v1) + v2)).bind fun x6 =>
          if (w32 x6) = 1 then
            (mald u 15 112 ((8 * v1) + v2)).bind fun x7 =>
            some x7
          else
            some 0
        else
        if (w32 v3) = 2 then
          (mald u 17 112 ((8 * v1) + v2)).bind fun x10 =>
          some x10
        else
        if (w32 v3) = 3 then
          (mald u 18 112 ((8 * v1) + v2)).bind fun x12 =>
          some x12
        else
        if (w32 v3) = 4 then
          (mald u 39 112 ((8 * v1) + v2)).bind fun x14 =>
          some x14
        else
          some (-2)
      else
        some (-1)
noncomputable def m5_clause (v1 : Int) (v2 : Int) (u : Mu) : Option (Int) :=
  (m5_isWording v1 u).bind fun x1 =>
  if (w32 x1) = 0 then
    some (-1)
  else
    if (w32 v2) < 1 then
      some (-1)
    else
      (mald u 23 14 v1).bind fun x2 =>
      if (w32 x2) < (w32 v2) then
        some (-1)
      else
        (mald u 24 336 (((24 * v1) + v2) - 1)).bind fun x3 =>
        some x3
noncomputable def m5_digitOf_l19 (v3 : Int) (v4 : Int) (u : Mu) : Nat → Int → Option (Int)
  | 0, _ => none
  | n + 1, v5 =>
    (mald u 38 68096 ((608 * v4) + v5)).bind fun x1 =>
    if (w32 x1) ≤ (w32 v3) then
      some v5
    else
      m5_digitOf_l19 v3 v4 u n (v5 + (-1))
noncomputable def m5_digitOf (v1 : Int) (v2 : Int) (v3 : Int) (u : Mu) : Option (Int) :=
  (mald u 39 112 ((8 * v1) + v2)).bind fun x1 =>
  (m5_digitOf_l19 v3 ((8 * v1) + v2) u NN (x1 - 1)).bind fun q2 =>
  some q2
noncomputable def m5_answerOf_l4 (v1 : Int) (u : Mu) : Nat → Int → Int → Option (Int)
  | 0, _, _ => none
  | n + 1, v2, v3 =>
    (mald u 12 14 v1).bind fun x1 =>
    if (w32 x1) ≤ (w32 v3) then
      some v2
    else
      (mald u 39 112 ((8 * v1) + v3)).bind fun x2 =>
      (mald u 59 8 v3).bind fun x3 =>
      (m5_digitOf v1 v3 x3 u).bind fun x4 =>
      m5_answerOf_l4 v1 u n ((v2 * x2) + x4) (v3 + 1)
noncomputable def m5_answerOf (v1 : Int) (u : Mu) : Option (Int) :=
  (m5_answerOf_l4 v1 u NN 0 0).bind fun q1 =>
  (mald u 41 28000 ((2000 * v1) + q1)).bind fun x2 =>
  if w32 x2 = 0 ∨ w32 x2 = 1 then some x2 else none
noncomputable def m5_isComparable_l135 (v1 : Int) (v2 : Int) (v4 : Int) (v5 : Int) (v6 : Int) (u : Mu) : Nat → Int → Int → Option (Int)
  | 0, _, _ => none
  | n + 1, v3, v7 =>
    if (w32 v3) = 0 then
      some v3
    else
      (mald u 14 112 v5).bind fun x1 =>
      if (w32 x1) = 1 then
        (mald u 15 112 v5).bind fun x2 =>
        if (w32 x2) ≤ (w32 v7) then
          some v3
        else
          (mald u 16 672 ((6 * v5) + v7)).bind fun x3 =>
          (mald u 16 672 ((6 * v6) + v7)).bind fun x4 =>
          if (w64 x3) = (w64 x4) then
            m5_isComparable_l135 v1 v2 v4 v5 v6 u n 1 (v7 + 1)
          else
            m5_isComparable_l135 v1 v2 v4 v5 v6 u n 0 (v7 + 1)
      else
        some v3
noncomputable def m5_isComparable_b131 (kh : Int → Int → Option (Int)) (v1 : Int) (v2 : Int) (v4 : Int) (v5 : Int) (v6 : Int) (s0 : Int) (u : Mu) : Option (Int) :=
  (m5_isComparable_l135 v1 v2 v4 v5 v6 u NN s0 0).bind fun q1 =>
  kh q1 (v4 + 1)
noncomputable def m5_isComparable_b130 (kh : Int → Int → Option (Int)) (v1 : Int) (v2 : Int) (v4 : Int) (v5 : Int) (v6 : Int) (u : Mu) : Option (Int) :=
  m5_isComparable_b131 (kh) v1 v2 v4 v5 v6 0 u
noncomputable def m5_isComparable_l24 (v1 : Int) (v2 : Int) (u : Mu) : Nat → Int → Int → Option (Int)
  | 0, _, _ => none
  | n + 1, v3, v4 =>
    (mald u 12 14 v1).bind fun x1 =>
    if (w32 x1) ≤ (w32 v4) then
      some v3
    else
      if (w32 v3) = 0 then
        some v3
      else
        (mald u 13 112 ((8 * v1) + v4)).bind fun x2 =>
        (mald u 13 112 ((8 * v2) + v4)).bind fun x3 =>
        if (w64 x2) = (w64 x3) then
          (mald u 14 112 ((8 * v1) + v4)).bind fun x4 =>
          (mald u 14 112 ((8 * v2) + v4)).bind fun x5 =>
          if (w32 x4) = (w32 x5) then
            (mald u 17 112 ((8 * v1) + v4)).bind fun x6 =>
            (mald u 17 112 ((8 * v2) + v4)).bind fun x7 =>
            if (w32 x6) = (w32 x7) then
              (mald u 18 112 ((8 * v1) + v4)).bind fun x8 =>
              (mald u 18 112 ((8 * v2) + v4)).bind fun x9 =>
              if (w32 x8) = (w32 x9) then
                m5_isComparable_b131 (m5_isComparable_l24 v1 v2 u n) v1 v2 v4 ((8 * v1) + v4) ((8 * v2) + v4) 1 u
              else
                m5_isComparable_b130 (m5_isComparable_l24 v1 v2 u n) v1 v2 v4 ((8 * v1) + v4) ((8 * v2) + v4) u
            else
              m5_isComparable_b130 (m5_isComparable_l24 v1 v2 u n) v1 v2 v4 ((8 * v1) + v4) ((8 * v2) + v4) u
          else
            m5_isComparable_b130 (m5_isComparable_l24 v1 v2 u n) v1 v2 v4 ((8 * v1) + v4) ((8 * v2) + v4) u
        else
          m5_isComparable_b130 (m5_isComparable_l24 v1 v2 u n) v1 v2 v4 ((8 * v1) + v4) ((8 * v2) + v4) u
noncomputable def m5_isComparable_b20 (v1 : Int) (v2 : Int) (s0 : Int) (u : Mu) : Option (Int) :=
  (m5_isComparable_l24 v1 v2 u NN s0 0).bind fun q1 =>
  if w32 q1 = 0 ∨ w32 q1 = 1 then some q1 else none
noncomputable def m5_isComparable (v1 : Int) (v2 : Int) (u : Mu) : Option (Int) :=
  (mald u 12 14 v1).bind fun x1 =>
  (mald u 12 14 v2).bind fun x2 =>
  if (w32 x1) = (w32 x2) then
    m5_isComparable_b20 v1 v2 1 u
  else
    m5_isComparable_b20 v1 v2 0 u
noncomputable def m5_putBoth_l10 (v1 : Int) (v2 : Int) (v3 : Int) (u : Mu) : Nat → Int → Option (Int)
  | 0, _ => none
  | n + 1, v4 =>
    if (w32 v4) ≤ 0 then
      some v4
    else
      (mald u 63 16000 (((2000 * v1) + v4) - 1)).bind fun x1 =>
      if (w32 x1) < (w32 v2) then
        some v4
      else
        m5_putBoth_l10 v1 v2 v3 u n (v4 + (-1))
noncomputable def m5_putBoth_l67 (v1 : Int) (v2 : Int) (v4 : Int) : Nat → Int → Mu → Option (Mu)
  | 0, _, _ => none
  | n + 1, v5, u =>
    if (w32 v5) ≤ (w32 v4) then
      some u
    else
      (mald u 63 16000 (((2000 * v1) + v5) - 1)).bind fun x1 =>
      (mast u 63 16000 ((2000 * v1) + v5) x1).bind fun u2 =>
      m5_putBoth_l67 v1 v2 v4 n (v5 + (-1)) u2
noncomputable def m5_putBoth_b64 (v1 : Int) (v2 : Int) (v3 : Int) (v4 : Int) (u : Mu) : Option (Mu) :=
  (m5_putBoth_l67 v1 v2 v4 NN v3 u).bind fun q1 =>
  (mast q1 63 16000 ((2000 * v1) + v4) v2).bind fun u2 =>
  (mald u2 64 8 v1).bind fun x3 =>
  (mast u2 64 8 v1 (x3 + 1)).bind fun u4 =>
  some u4
noncomputable def m5_putBoth_b40 (v1 : Int) (v2 : Int) (v3 : Int) (v4 : Int) (u : Mu) : Option (Mu) :=
  if (w32 v3) ≤ (w32 v4) then
    m5_putBoth_b64 v1 v2 v3 v4 u
  else
    (mald u 63 16000 ((2000 * v1) + v4)).bind fun x1 =>
    if (w32 x1) = (w32 v2) then
      some u
    else
      m5_putBoth_b64 v1 v2 v3 v4 u
noncomputable def m5_putBoth (v1 : Int) (v2 : Int) (u : Mu) : Option (Mu) :=
  (mald u 64 8 v1).bind fun x1 =>
  (m5_putBoth_l10 v1 v2 x1 u NN x1).bind fun q2 =>
  m5_putBoth_b40 v1 v2 x1 q2 u
noncomputable def m5_joinStarts_l27 (v1 : Int) (v2 : Int) (v3 : Int) (v5 : Int) : Nat → Int → Mu → Option (Mu)
  | 0, _, _ => none
  | n + 1, v6, u =>
    (mald u 39 112 ((8 * v1) + v5)).bind fun x1 =>
    if (w32 x1) ≤ (w32 v6) then
      some u
    else
      (mald u 38 68096 ((608 * ((8 * v1) + v5)) + v6)).bind fun x2 =>
      (m5_putBoth v5 x2 u).bind fun u3 =>
      m5_joinStarts_l27 v1 v2 v3 v5 n (v6 + 1) u3
noncomputable def m5_joinStarts_l78 (v1 : Int) (v2 : Int) (v3 : Int) (v5 : Int) : Nat → Int → Mu → Option (Mu)
  | 0, _, _ => none
  | n + 1, v6, u =>
    (mald u 39 112 ((8 * v2) + v5)).bind fun x1 =>
    if (w32 x1) ≤ (w32 v6) then
      some u
    else
      (mald u 38 68096 ((608 * ((8 * v2) + v5)) + v6)).bind fun x2 =>
      (m5_putBoth v5 x2 u).bind fun u3 =>
      m5_joinStarts_l78 v1 v2 v3 v5 n (v6 + 1) u3
noncomputable def m5_joinStarts_l5 (v1 : Int) (v2 : Int) : Nat → Int → Int → Mu → Option (Int × Mu)
  | 0, _, _, _ => none
  | n + 1, v3, v5, u =>
    (mald u 12 14 v1).bind fun x1 =>
    if (w32 x1) ≤ (w32 v5) then
      some (v3, u)
    else
      (mast u 64 8 v5 0).bind fun u2 =>
      (m5_joinStarts_l27 v1 v2 v3 v5 NN 0 u2).bind fun q3 =>
      (m5_joinStarts_l78 v1 v2 v3 v5 NN 0 q3).bind fun q4 =>
      if (w64 v3) ≤ 1000000 then
        (mald q4 64 8 v5).bind fun x5 =>
        m5_joinStarts_l5 v1 v2 n (v3 * (w32 x5)) (v5 + 1) q4
      else
        m5_joinStarts_l5 v1 v2 n v3 (v5 + 1) q4
noncomputable def m5_joinStarts_b171 (v3 : Int) (s1 : Int) (u : Mu) : Option (Int × Mu) :=
  (some (ms u 65 s1)).bind fun u1 =>
  if 20000 < (w64 v3) then
    some (0, u1)
  else
    some (1, u1)
noncomputable def m5_joinStarts (v1 : Int) (v2 : Int) (u : Mu) : Option (Int × Mu) :=
  (m5_joinStarts_l5 v1 v2 NN 1 0 u).bind fun q1 =>
  if (w64 q1.1) ≤ 1000000 then
    m5_joinStarts_b171 q1.1 q1.1 q1.2
  else
    m5_joinStarts_b171 q1.1 1000001 q1.2
noncomputable def m5_takeBoth_l7 : Nat → Int → Int → Mu → Option (Mu)
  | 0, _, _, _ => none
  | n + 1, v3, v4, u =>
    if (w32 v4) < 0 then
      some u
    else
      (mald u 64 8 v4).bind fun x1 =>
      if w32 x1 = 0 then none else
      (mald u 63 16000 ((2000 * v4) + (rem32 v3 x1))).bind fun x3 =>
      (mast u 59 8 v4 x3).bind fun u4 =>
      (mald u4 64 8 v4).bind fun x5 =>
      if w32 x5 = 0 then none else
      m5_takeBoth_l7 n (div32 v3 x5) (v4 + (-1)) u4
noncomputable def m5_takeBoth (v1 : Int) (v2 : Int) (u : Mu) : Option (Mu) :=
  (m5_takeBoth_l7 NN v2 (v1 - 1) u).bind fun q1 =>
  some q1
noncomputable def m5_compare_l158 (v1 : Int) (v2 : Int) (v3 : Int) (v6 : Int) : Nat → Int → Mu → Option (Mu)
  | 0, _, _ => none
  | n + 1, v7, u =>
    (mald u 12 14 v1).bind fun x1 =>
    if (w32 x1) ≤ (w32 v7) then
      some u
    else
      (mald u 59 8 v7).bind fun x2 =>
      (mast u 66 16 ((8 * v6) + v7) x2).bind fun u3 =>
      m5_compare_l158 v1 v2 v3 v6 n (v7 + 1) u3
noncomputable def m5_compare_b125 (kh : Int → Mu → Option (Mu)) (v1 : Int) (v2 : Int) (v3 : Int) (s0 : Int) (u : Mu) : Option (Mu) :=
  if (w32 s0) < 0 then
    kh (v3 + 1) u
  else
    (mald u 67 2 s0).bind fun x1 =>
    if 0 ≤ (w32 x1) then
      kh (v3 + 1) u
    else
      (mald u 12 14 v1).bind fun x2 =>
      (mast u 67 2 s0 x2).bind fun u3 =>
      (m5_compare_l158 v1 v2 v3 s0 NN 0 u3).bind fun q4 =>
      kh (v3 + 1) q4
noncomputable def m5_compare_b124 (kh : Int → Mu → Option (Mu)) (v1 : Int) (v2 : Int) (v3 : Int) (u : Mu) : Option (Mu) :=
  m5_compare_b125 (kh) v1 v2 v3 (-1) u
noncomputable def m5_compare_b110 (kh : Int → Mu → Option (Mu)) (v1 : Int) (v2 : Int) (v3 : Int) (v4 : Int) (v5 : Int) (u : Mu) : Option (Mu) :=
  if (w32 v5) = 0 then
    m5_compare_b124 (kh) v1 v2 v3 u
  else
    if (w32 v4) = 0 then
      m5_compare_b125 (kh) v1 v2 v3 1 u
    else
      m5_compare_b124 (kh) v1 v2 v3 u
noncomputable def m5_compare_l63 (v1 : Int) (v2 : Int) : Nat → Int → Mu → Option (Mu)
  | 0, _, _ => none
  | n + 1, v3, u =>
    if (w32 (u.1 65)) ≤ (w32 v3) then
      some u
    else
      (mald u 12 14 v1).bind fun x1 =>
      (m5_takeBoth x1 v3 u).bind fun u2 =>
      (m5_answerOf v1 u2).bind fun x3 =>
      (m5_answerOf v2 u2).bind fun x4 =>
      if (w32 x3) = 0 then
        m5_compare_b110 (m5_compare_l63 v1 v2 n) v1 v2 v3 x3 x4 u2
      else
        if (w32 x4) = 0 then
          m5_compare_b125 (m5_compare_l63 v1 v2 n) v1 v2 v3 0 u2
        else
          m5_compare_b110 (m5_compare_l63 v1 v2 n) v1 v2 v3 x3 x4 u2
noncomputable def m5_compare (v1 : Int) (v2 : Int) (u : Mu) : Option (Int × Mu) :=
  (m5_isWording v1 u).bind fun x1 =>
  if (w32 x1) = 0 then
    some ((-1), u)
  else
    (m5_isWording v2 u).bind fun x2 =>
    if (w32 x2) = 0 then
      some ((-1), u)
    else
      (m5_isComparable v1 v2 u).bind fun x3 =>
      if (w32 x3) = 0 then
        some ((-3), u)
      else
        (m5_joinStarts v1 v2 u).bind fun q4 =>
        if (w32 q4.1) = 0 then
          some ((-4), q4.2)
        else
          (mast q4.2 67 2 0 (-1)).bind fun u5 =>
          (mast u5 67 2 1 (-1)).bind fun u6 =>
          (some (ms u6 68 1)).bind fun u7 =>
          (m5_compare_l63 v1 v2 NN 0 u7).bind fun q8 =>
          (mald q8 67 2 0).bind fun x9 =>
          if 0 ≤ (w32 x9) then
            (mald q8 67 2 1).bind fun x10 =>
            if 0 ≤ (w32 x10) then
              some (3, q8)
            else
              some (1, q8)
          else
            (mald q8 67 2 1).bind fun x12 =>
            if 0 ≤ (w32 x12) then
              some (2, q8)
            else
              some (0, q8)
noncomputable def m5_apart (v1 : Int) (v2 : Int) (u : Mu) : Option (Int) :=
  if (w32 v1) < 0 then
    some (-1)
  else
    if (w32 v1) ≤ 1 then
      if (w32 (u.1 68)) = 0 then
        some (-3)
      else
        (mald u 67 2 v1).bind fun x1 =>
        if 0 ≤ (w32 x1) then
          if (w32 v2) < 0 then
            some (-1)
          else
            (mald u 67 2 v1).bind fun x2 =>
            if (w32 x2) ≤ (w32 v2) then
              some (-1)
            else
              (mald u 66 16 ((8 * v1) + v2)).bind fun x3 =>
              some x3
        else
          some (-3)
    else
      some (-1)
noncomputable def m5_judge_l130 (v1 : Int) (v2 : Int) : Nat → Int → Mu → Option (Mu)
  | 0, _, _ => none
  | n + 1, v4, u =>
    (mald u 12 14 v1).bind fun x1 =>
    if (w32 x1) ≤ (w32 v4) then
      some u
    else
      (m5_findStarts 13 v4 u).bind fun u2 =>
      m5_judge_l130 v1 v2 n (v4 + 1) u2
noncomputable def m5_judge_l279 (v1 : Int) (v2 : Int) (v4 : Int) : Nat → Int → Mu → Option (Mu)
  | 0, _, _ => none
  | n + 1, v7, u =>
    (mald u 12 14 v1).bind fun x1 =>
    if (w32 x1) ≤ (w32 v7) then
      some u
    else
      (mald u 59 8 v7).bind fun x2 =>
      (mast u 69 8 v7 x2).bind fun u3 =>
      m5_judge_l279 v1 v2 v4 n (v7 + 1) u3
noncomputable def m5_judge_b266 (kh : Int → Mu → Option (Mu)) (v1 : Int) (v2 : Int) (v4 : Int) (u : Mu) : Option (Mu) :=
  (mald u 12 14 v1).bind fun x1 =>
  (some (ms u 70 x1)).bind fun u2 =>
  (m5_judge_l279 v1 v2 v4 NN 0 u2).bind fun q3 =>
  kh (v4 + 1) q3
noncomputable def m5_judge_b240 (kh : Int → Mu → Option (Mu)) (v1 : Int) (v2 : Int) (v4 : Int) (v5 : Int) (s0 : Int) (u : Mu) : Option (Mu) :=
  if (w32 v2) = 26 then
    if (w32 v5) = 0 then
      kh (v4 + 1) u
    else
      if (w32 s0) = 0 then
        m5_judge_b266 (kh) v1 v2 v4 u
      else
        kh (v4 + 1) u
  else
    if (w32 s0) = 0 then
      kh (v4 + 1) u
    else
      m5_judge_b266 (kh) v1 v2 v4 u
noncomputable def m5_judge_b239 (kh : Int → Mu → Option (Mu)) (v1 : Int) (v2 : Int) (v4 : Int) (v5 : Int) (u : Mu) : Option (Mu) :=
  m5_judge_b240 (kh) v1 v2 v4 v5 0 u
noncomputable def m5_judge_l176 (v1 : Int) (v2 : Int) : Nat → Int → Mu → Option (Mu)
  | 0, _, _ => none
  | n + 1, v4, u =>
    if (w32 (u.1 65)) ≤ (w32 v4) then
      some u
    else
      if 0 ≤ (w32 (u.1 70)) then
        some u
      else
        (mald u 12 14 v1).bind fun x1 =>
        (m5_takeBoth x1 v4 u).bind fun u2 =>
        (m5_findMeant v1 u2).bind fun u3 =>
        (m5_isTrue 13 0 (u3.1 46) u3).bind fun q4 =>
        if (w32 q4.1) = 0 then
          m5_judge_b239 (m5_judge_l176 v1 v2 n) v1 v2 v4 q4.1 q4.2
        else
          (m5_answerOf v1 q4.2).bind fun x5 =>
          if (w32 x5) = 0 then
            m5_judge_b239 (m5_judge_l176 v1 v2 n) v1 v2 v4 q4.1 q4.2
          else
            m5_judge_b240 (m5_judge_l176 v1 v2 n) v1 v2 v4 q4.1 1 q4.2
noncomputable def m5_judge_b316 (v2 : Int) (u : Mu) : Option (Int × Mu) :=
  if (w32 v2) = 28 then
    if (w32 (u.1 70)) < 0 then
      some (0, u)
    else
      some (1, u)
  else
    if (w32 (u.1 70)) < 0 then
      some (1, u)
    else
      some (0, u)
noncomputable def m5_judge_b84 (v1 : Int) (v2 : Int) (u : Mu) : Option (Int × Mu) :=
  (m5_ended u).bind fun q1 =>
  if 0 ≤ (w32 q1.1) then
    (m5_clear 13 q1.2).bind fun u2 =>
    (m5_copyWording 13 v1 u2).bind fun u3 =>
    (mast u3 33 14 13 0).bind fun u4 =>
    (m5_takeNodes 13 0 (u4.1 46) u4).bind fun u5 =>
    (m5_judge_l130 v1 v2 NN 0 u5).bind fun q6 =>
    (m5_joinStarts v1 13 q6).bind fun q7 =>
    if (w32 q7.1) = 0 then
      some ((-4), q7.2)
    else
      (some (ms q7.2 70 (-1))).bind fun u8 =>
      (m5_judge_l176 v1 v2 NN 0 u8).bind fun q9 =>
      m5_judge_b316 v2 q9
  else
    some (q1.1, q1.2)
noncomputable def m5_judge_b80 (v1 : Int) (v2 : Int) (u : Mu) : Option (Int × Mu) :=
  (m5_cannot u).bind fun u1 =>
  m5_judge_b84 v1 v2 u1
noncomputable def m5_judge (v1 : Int) (u : Mu) : Option (Int × Mu) :=
  (m5_isWording v1 u).bind fun x1 =>
  if (w32 x1) = 0 then
    some ((-1), u)
  else
    (m5_beginText v1 300 u).bind fun u2 =>
    if (w32 (u2.1 4)) = 4 then
      if (w32 (u2.1 7)) < 26 then
        m5_judge_b80 v1 (-1) u2
      else
        if 28 < (w32 (u2.1 7)) then
          m5_judge_b80 v1 (-1) u2
        else
          (m5_next u2).bind fun u3 =>
          (m5_cond u3).bind fun u4 =>
          if (w32 (u4.1 8)) = 0 then
            if (w32 (u4.1 4)) = 0 then
              m5_judge_b84 v1 (u2.1 7) u4
            else
              (m5_cannot u4).bind fun u5 =>
              m5_judge_b84 v1 (u2.1 7) u5
          else
            m5_judge_b84 v1 (u2.1 7) u4
    else
      m5_judge_b80 v1 (-1) u2
noncomputable def m5_shown (v1 : Int) (u : Mu) : Option (Int) :=
  if 0 ≤ (w32 (u.1 70)) then
    if (w32 v1) < 0 then
      some (-1)
    else
      if (w32 (u.1 70)) ≤ (w32 v1) then
        some (-1)
      else
        (mald u 69 8 v1).bind fun x1 =>
        some x1
  else
    some (-3)
noncomputable def m5_event_l44 : Nat → Int → Mu → Option (Mu)
  | 0, _, _ => none
  | n + 1, v2, u =>
    if 8 ≤ (w32 v2) then
      some u
    else
      (mast u 75 264 ((8 * (u.1 71)) + v2) 0).bind fun u1 =>
      m5_event_l44 n (v2 + 1) u1
noncomputable def m5_event (v1 : Int) (u : Mu) : Option (Int × Mu) :=
  (m5_isWording v1 u).bind fun x1 =>
  if (w32 x1) = 0 then
    some ((-1), u)
  else
    if (w32 (u.1 71)) = 32 then
      some ((-4), u)
    else
      (some (ms u 71 ((u.1 71) + 1))).bind fun u2 =>
      (mast u2 72 33 (u2.1 71) v1).bind fun u3 =>
      (m5_event_l44 NN 0 u3).bind fun q4 =>
      some ((q4.1 71), q4)
noncomputable def m5_isDay (v0 : Int) : Option (Int) :=
  if (w32 v0) < 0 then
    some 0
  else
    if 9999 < (w32 v0) then
      some 0
    else
      some 1
noncomputable def m5_isEvent (v1 : Int) (u : Mu) : Option (Int) :=
  if (w32 v1) < 1 then
    some 0
  else
    if (w32 (u.1 71)) < (w32 v1) then
      some 0
    else
      some 1
noncomputable def m5_tell_b69 (v1 : Int) (v2 : Int) (v3 : Int) (v4 : Int) (u : Mu) : Option (Int × Mu) :=
  (m5_isDay v4).bind fun x1 =>
  if (w32 x1) = 0 then
    some ((-2), u)
  else
    (mald u 75 264 ((8 * v1) + v2)).bind fun x2 =>
    if (w32 x2) = 6 then
      some ((-4), u)
    else
      (mald u 75 264 ((8 * v1) + v2)).bind fun x3 =>
      (mast u 73 1584 ((6 * ((8 * v1) + v2)) + x3) v3).bind fun u4 =>
      (mald u4 75 264 ((8 * v1) + v2)).bind fun x5 =>
      (mast u4 74 1584 ((6 * ((8 * v1) + v2)) + x5) v4).bind fun u6 =>
      (mald u6 75 264 ((8 * v1) + v2)).bind fun x7 =>
      (mast u6 75 264 ((8 * v1) + v2) (x7 + 1)).bind fun u8 =>
      (mald u8 75 264 ((8 * v1) + v2)).bind fun x9 =>
      some (x9, u8)
noncomputable def m5_tell (v1 : Int) (v2 : Int) (v3 : Int) (v4 : Int) (u : Mu) : Option (Int × Mu) :=
  (m5_isEvent v1 u).bind fun x1 =>
  if (w32 x1) = 0 then
    some ((-1), u)
  else
    if (w32 v2) < 0 then
      some ((-1), u)
    else
      (mald u 72 33 v1).bind fun x2 =>
      (mald u 12 14 x2).bind fun x3 =>
      if (w32 v2) < (w32 x3) then
        (mald u 72 33 v1).bind fun x4 =>
        if (w32 v3) = (-1) then
          m5_tell_b69 v1 v2 v3 v4 u
        else
          (mald u 17 112 ((8 * x4) + v2)).bind fun x5 =>
          if (w32 v3) < (w32 x5) then
            some ((-2), u)
          else
            (mald u 18 112 ((8 * x4) + v2)).bind fun x6 =>
            if (w32 x6) < (w32 v3) then
              some ((-2), u)
            else
              m5_tell_b69 v1 v2 v3 v4 u
      else
        some ((-1), u)
noncomputable def m5_factAt_l17 (v3 : Int) (v4 : Int) (u : Mu) : Nat → Int → Int → Int → Option (Int)
  | 0, _, _, _ => none
  | n + 1, v5, v6, v7 =>
    (mald u 75 264 v4).bind fun x1 =>
    if (w32 x1) ≤ (w32 v7) then
      some v6
    else
      (mald u 74 1584 ((6 * v4) + v7)).bind fun x2 =>
      if (w32 v3) < (w32 x2) then
        m5_factAt_l17 v3 v4 u n v5 v6 (v7 + 1)
      else
        (mald u 74 1584 ((6 * v4) + v7)).bind fun x3 =>
        if (w32 x3) < (w32 v5) then
          m5_factAt_l17 v3 v4 u n v5 v6 (v7 + 1)
        else
          (mald u 74 1584 ((6 * v4) + v7)).bind fun x4 =>
          (mald u 73 1584 ((6 * v4) + v7)).bind fun x5 =>
          m5_factAt_l17 v3 v4 u n x4 x5 (v7 + 1)
noncomputable def m5_factAt (v1 : Int) (v2 : Int) (v3 : Int) (u : Mu) : Option (Int) :=
  (m5_factAt_l17 v3 ((8 * v1) + v2) u NN (-1) (-1) 0).bind fun q1 =>
  some q1
noncomputable def m5_fact (v1 : Int) (v2 : Int) (v3 : Int) (u : Mu) : Option (Int) :=
  (m5_isEvent v1 u).bind fun x1 =>
  if (w32 x1) = 0 then
    some (-1)
  else
    if (w32 v2) < 0 then
      some (-1)
    else
      (mald u 72 33 v1).bind fun x2 =>
      (mald u 12 14 x2).bind fun x3 =>
      if (w32 v2) < (w32 x3) then
        (m5_isDay v3).bind fun x4 =>
        if (w32 x4) = 0 then
          some (-2)
        else
          (m5_factAt v1 v2 v3 u).bind fun x5 =>
          some x5
      else
        some (-1)
noncomputable def m5_noEvent (v1 : Int) (v2 : Int) (u : Mu) : Option (Int) :=
  (m5_isEvent v1 u).bind fun x1 =>
  if (w32 x1) = 0 then
    some (-1)
  else
    (m5_isDay v2).bind fun x2 =>
    if (w32 x2) = 0 then
      some (-2)
    else
      some 0
noncomputable def m5_firstWay_l2 (v1 : Int) : Nat → Int → Mu → Option (Mu)
  | 0, _, _ => none
  | n + 1, v2, u =>
    (mald u 12 14 v1).bind fun x1 =>
    if (w32 x1) ≤ (w32 v2) then
      some u
    else
      (mald u 76 8 v2).bind fun x2 =>
      if 0 ≤ (w32 x2) then
        (mald u 76 8 v2).bind fun x3 =>
        (mast u 77 8 v2 x3).bind fun u4 =>
        m5_firstWay_l2 v1 n (v2 + 1) u4
      else
        (mast u 77 8 v2 0).bind fun u5 =>
        m5_firstWay_l2 v1 n (v2 + 1) u5
noncomputable def m5_firstWay (v1 : Int) (u : Mu) : Option (Mu) :=
  (m5_firstWay_l2 v1 NN 0 u).bind fun q1 =>
  some q1
noncomputable def m5_nextWay_l9 (v1 : Int) : Nat → Int → Mu → Option ((Mu) ⊕ (Mu))
  | 0, _, _ => none
  | n + 1, v2, u =>
    if (w32 v2) < 0 then
      some (.inr u)
    else
      (mald u 76 8 v2).bind fun x1 =>
      if (w32 x1) < 0 then
        (mald u 77 8 v2).bind fun x2 =>
        (mast u 77 8 v2 (x2 + 1)).bind fun u3 =>
        (mald u3 77 8 v2).bind fun x4 =>
        (mald u3 39 112 ((8 * v1) + v2)).bind fun x5 =>
        if (w32 x5) ≤ (w32 x4) then
          (mast u3 77 8 v2 0).bind fun u6 =>
          m5_nextWay_l9 v1 n (v2 + (-1)) u6
        else
          some (.inl u3)
      else
        m5_nextWay_l9 v1 n (v2 + (-1)) u
noncomputable def m5_nextWay (v1 : Int) (u : Mu) : Option (Int × Mu) :=
  (mald u 12 14 v1).bind fun x1 =>
  (m5_nextWay_l9 v1 NN (x1 - 1) u).bind
    (Sum.elim
      (fun q2 =>
        some (1, q2))
      (fun q3 =>
        some (0, q3)))
noncomputable def m5_wayAnswer_l4 (v1 : Int) (u : Mu) : Nat → Int → Int → Option (Int)
  | 0, _, _ => none
  | n + 1, v2, v3 =>
    (mald u 12 14 v1).bind fun x1 =>
    if (w32 x1) ≤ (w32 v3) then
      some v2
    else
      (mald u 39 112 ((8 * v1) + v3)).bind fun x2 =>
      (mald u 77 8 v3).bind fun x3 =>
      m5_wayAnswer_l4 v1 u n ((v2 * x2) + x3) (v3 + 1)
noncomputable def m5_wayAnswer (v1 : Int) (u : Mu) : Option (Int) :=
  (m5_wayAnswer_l4 v1 u NN 0 0).bind fun q1 =>
  (mald u 41 28000 ((2000 * v1) + q1)).bind fun x2 =>
  if w32 x2 = 0 ∨ w32 x2 = 1 then some x2 else none
noncomputable def m5_settled_l11 (v1 : Int) (v2 : Int) : Nat → Mu → Option ((Mu) ⊕ (Mu))
  | 0, _ => none
  | n + 1, u =>
    (m5_nextWay v1 u).bind fun q1 =>
    if (w32 q1.1) = 0 then
      some (.inr q1.2)
    else
      (m5_wayAnswer v1 q1.2).bind fun x2 =>
      if (w32 x2) = (w32 v2) then
        m5_settled_l11 v1 v2 n q1.2
      else
        some (.inl q1.2)
noncomputable def m5_settled (v1 : Int) (u : Mu) : Option (Int × Mu) :=
  (m5_firstWay v1 u).bind fun u1 =>
  (m5_wayAnswer v1 u1).bind fun x2 =>
  (m5_settled_l11 v1 x2 NN u1).bind
    (Sum.elim
      (fun q3 =>
        some (2, q3))
      (fun q4 =>
        if (w32 x2) = 0 then
          some (0, q4)
        else
          some (1, q4)))
noncomputable def m5_takeDigits_l3 (v1 : Int) (v2 : Int) (v3 : Int) : Nat → Int → Mu → Option (Mu)
  | 0, _, _ => none
  | n + 1, v4, u =>
    (mald u 12 14 v1).bind fun x1 =>
    if (w32 x1) ≤ (w32 v4) then
      some u
    else
      (m5_factAt v2 v4 v3 u).bind fun x2 =>
      if 0 ≤ (w32 x2) then
        (m5_digitOf v1 v4 x2 u).bind fun x3 =>
        (mast u 76 8 v4 x3).bind fun u4 =>
        m5_takeDigits_l3 v1 v2 v3 n (v4 + 1) u4
      else
        (mast u 76 8 v4 (-1)).bind fun u5 =>
        m5_takeDigits_l3 v1 v2 v3 n (v4 + 1) u5
noncomputable def m5_takeDigits (v1 : Int) (v2 : Int) (v3 : Int) (u : Mu) : Option (Mu) :=
  (m5_takeDigits_l3 v1 v2 v3 NN 0 u).bind fun q1 =>
  some q1
noncomputable def m5_covers (v1 : Int) (v2 : Int) (u : Mu) : Option (Int × Mu) :=
  (m5_noEvent v1 v2 u).bind fun x1 =>
  if 0 ≤ (w32 x1) then
    (mald u 72 33 v1).bind fun x2 =>
    (m5_takeDigits x2 v1 v2 u).bind fun u3 =>
    (mald u3 72 33 v1).bind fun x4 =>
    (m5_settled x4 u3).bind fun q5 =>
    some (q5.1, q5.2)
  else
    (m5_noEvent v1 v2 u).bind fun x6 =>
    some (x6, u)
noncomputable def m5_bits_l4 (v0 : Int) : Nat → Int → Int → Option (Int)
  | 0, _, _ => none
  | n + 1, v1, v2 =>
    if 8 ≤ (w32 v2) then
      some v1
    else
      m5_bits_l4 v0 n (v1 + (and32 (shr32 v0 v2) 1)) (v2 + 1)
noncomputable def m5_bits (v0 : Int) : Option (Int) :=
  (m5_bits_l4 v0 NN 0 0).bind fun q1 =>
  some q1
noncomputable def m5_isBefore (v0 : Int) (v1 : Int) : Option (Int) :=
  (m5_bits v0).bind fun x1 =>
  (m5_bits v1).bind fun x2 =>
  if (w32 x1) = (w32 x2) then
    if (w32 (and32 (and32 v0 (xor32 v0 v1)) (-(xor32 v0 v1)))) = 0 then
      some 0
    else
      some 1
  else
    (m5_bits v0).bind fun x4 =>
    (m5_bits v1).bind fun x5 =>
    if (w32 x5) ≤ (w32 x4) then
      some 0
    else
      some 1
noncomputable def m5_settlesAll_l2 (v1 : Int) (v2 : Int) : Nat → Int → Mu → Option (Mu)
  | 0, _, _ => none
  | n + 1, v3, u =>
    if 2000 ≤ (w32 v3) then
      some u
    else
      (mast u 79 2000 v3 (-1)).bind fun u1 =>
      m5_settlesAll_l2 v1 v2 n (v3 + 1) u1
noncomputable def m5_settlesAll_l39 (v1 : Int) (v2 : Int) (u : Mu) : Nat → Int → Int → Option (Int)
  | 0, _, _ => none
  | n + 1, v4, v5 =>
    (mald u 12 14 v1).bind fun x1 =>
    if (w32 x1) ≤ (w32 v5) then
      some v4
    else
      if (w32 (and32 (shr32 v2 v5) 1)) = 1 then
        (mald u 39 112 ((8 * v1) + v5)).bind fun x2 =>
        (mald u 77 8 v5).bind fun x3 =>
        m5_settlesAll_l39 v1 v2 u n ((v4 * x2) + x3) (v5 + 1)
      else
        m5_settlesAll_l39 v1 v2 u n v4 (v5 + 1)
noncomputable def m5_settlesAll_b130 (kh : Int → Mu → Option ((Mu) ⊕ (Mu))) (v1 : Int) (v2 : Int) (v4 : Int) (v5 : Int) (u : Mu) : Option ((Mu) ⊕ (Mu)) :=
  (mast u 79 2000 v4 v5).bind fun u1 =>
  (m5_nextWay v1 u1).bind fun q2 =>
  kh q2.1 q2.2
noncomputable def m5_settlesAll_b104 (kh : Int → Mu → Option ((Mu) ⊕ (Mu))) (v1 : Int) (v2 : Int) (v4 : Int) (s0 : Int) (u : Mu) : Option ((Mu) ⊕ (Mu)) :=
  (mald u 79 2000 v4).bind fun x1 =>
  if (w32 x1) < 0 then
    m5_settlesAll_b130 (kh) v1 v2 v4 s0 u
  else
    (mald u 79 2000 v4).bind fun x2 =>
    if (w32 x2) = (w32 s0) then
      m5_settlesAll_b130 (kh) v1 v2 v4 s0 u
    else
      some (.inl u)
noncomputable def m5_settlesAll_l29 (v1 : Int) (v2 : Int) : Nat → Int → Mu → Option ((Mu) ⊕ (Mu))
  | 0, _, _ => none
  | n + 1, v3, u =>
    if (w32 v3) = 0 then
      some (.inr u)
    else
      (m5_settlesAll_l39 v1 v2 u NN 0 0).bind fun q1 =>
      (m5_wayAnswer v1 u).bind fun x2 =>
      if (w32 x2) = 0 then
        m5_settlesAll_b104 (m5_settlesAll_l29 v1 v2 n) v1 v2 q1 0 u
      else
        m5_settlesAll_b104 (m5_settlesAll_l29 v1 v2 n) v1 v2 q1 1 u
noncomputable def m5_settlesAll (v1 : Int) (v2 : Int) (u : Mu) : Option (Int × Mu) :=
  (m5_settlesAll_l2 v1 v2 NN 0 u).bind fun q1 =>
  (m5_firstWay v1 q1).bind fun u2 =>
  (m5_settlesAll_l29 v1 v2 NN 1 u2).bind
    (Sum.elim
      (fun q3 =>
        some (0, q3))
      (fun q4 =>
        some (1, q4)))
noncomputable def m5_settles_b67 (kh : Int → Int → Option (Int)) (v3 : Int) (v5 : Int) (s0 : Int) (s1 : Int) (u : Mu) : Option (Int) :=
  kh (or32 s0 s1) (v5 + 1)
noncomputable def m5_settles_l36 (v3 : Int) (u : Mu) : Nat → Int → Int → Option (Int)
  | 0, _, _ => none
  | n + 1, v4, v5 =>
    (mald u 12 14 v3).bind fun x1 =>
    if (w32 x1) ≤ (w32 v5) then
      some v4
    else
      (mald u 76 8 v5).bind fun x2 =>
      if 0 ≤ (w32 x2) then
        m5_settles_b67 (m5_settles_l36 v3 u n) v3 v5 v4 0 u
      else
        m5_settles_b67 (m5_settles_l36 v3 u n) v3 v5 v4 (shl32 1 v5) u
noncomputable def m5_settles_l83 (v3 : Int) (v4 : Int) : Nat → Int → Int → Mu → Option (Int × Mu)
  | 0, _, _, _ => none
  | n + 1, v5, v6, u =>
    if 256 ≤ (w32 v6) then
      some (v5, u)
    else
      if (w32 (and32 v6 (xor32 v4 (-1)))) = 0 then
        (m5_isBefore v6 v5).bind fun x1 =>
        if (w32 x1) = 0 then
          m5_settles_l83 v3 v4 n v5 (v6 + 1) u
        else
          (m5_settlesAll v3 v6 u).bind fun q2 =>
          if (w32 q2.1) = 0 then
            m5_settles_l83 v3 v4 n v5 (v6 + 1) q2.2
          else
            m5_settles_l83 v3 v4 n v6 (v6 + 1) q2.2
      else
        m5_settles_l83 v3 v4 n v5 (v6 + 1) u
noncomputable def m5_settles (v1 : Int) (v2 : Int) (u : Mu) : Option (Int × Mu) :=
  (m5_noEvent v1 v2 u).bind fun x1 =>
  if 0 ≤ (w32 x1) then
    (mald u 72 33 v1).bind fun x2 =>
    (m5_takeDigits x2 v1 v2 u).bind fun u3 =>
    (m5_settles_l36 x2 u3 NN 0 0).bind fun q4 =>
    (m5_settles_l83 x2 q4 NN q4 0 u3).bind fun q5 =>
    some (q5.1, q5.2)
  else
    (m5_noEvent v1 v2 u).bind fun x6 =>
    some (x6, u)
noncomputable def m5_because_b93 (kh : Int → Int → Mu → Option (Int × Mu)) (v3 : Int) (v5 : Int) (s0 : Int) (s1 : Int) (u : Mu) : Option (Int × Mu) :=
  kh (or32 s0 s1) (v5 + 1) u
noncomputable def m5_because_l48 (v3 : Int) : Nat → Int → Int → Mu → Option (Int × Mu)
  | 0, _, _, _ => none
  | n + 1, v4, v5, u =>
    (mald u 12 14 v3).bind fun x1 =>
    if (w32 x1) ≤ (w32 v5) then
      some (v4, u)
    else
      (mald u 76 8 v5).bind fun x2 =>
      (mast u 80 8 v5 x2).bind fun u3 =>
      (mald u3 76 8 v5).bind fun x4 =>
      if (w32 x4) < 0 then
        m5_because_b93 (m5_because_l48 v3 n) v3 v5 v4 0 u3
      else
        m5_because_b93 (m5_because_l48 v3 n) v3 v5 v4 (shl32 1 v5) u3
noncomputable def m5_because_l143 (v3 : Int) (v4 : Int) (v5 : Int) (v6 : Int) : Nat → Int → Mu → Option (Mu)
  | 0, _, _ => none
  | n + 1, v7, u =>
    (mald u 12 14 v3).bind fun x1 =>
    if (w32 x1) ≤ (w32 v7) then
      some u
    else
      if (w32 (and32 (shr32 v6 v7) 1)) = 1 then
        (mald u 80 8 v7).bind fun x3 =>
        (mast u 76 8 v7 x3).bind fun u4 =>
        m5_because_l143 v3 v4 v5 v6 n (v7 + 1) u4
      else
        (mast u 76 8 v7 (-1)).bind fun u2 =>
        m5_because_l143 v3 v4 v5 v6 n (v7 + 1) u2
noncomputable def m5_because_l109 (v3 : Int) (v4 : Int) : Nat → Int → Int → Mu → Option (Int × Mu)
  | 0, _, _, _ => none
  | n + 1, v5, v6, u =>
    if 256 ≤ (w32 v6) then
      some (v5, u)
    else
      if (w32 (and32 v6 (xor32 v4 (-1)))) = 0 then
        (m5_isBefore v6 v5).bind fun x1 =>
        if (w32 x1) = 0 then
          m5_because_l109 v3 v4 n v5 (v6 + 1) u
        else
          (m5_because_l143 v3 v4 v5 v6 NN 0 u).bind fun q2 =>
          (m5_settled v3 q2).bind fun q3 =>
          if (w32 q3.1) = 2 then
            m5_because_l109 v3 v4 n v5 (v6 + 1) q3.2
          else
            m5_because_l109 v3 v4 n v6 (v6 + 1) q3.2
      else
        m5_because_l109 v3 v4 n v5 (v6 + 1) u
noncomputable def m5_because (v1 : Int) (v2 : Int) (u : Mu) : Option (Int × Mu) :=
  (m5_noEvent v1 v2 u).bind fun x1 =>
  if 0 ≤ (w32 x1) then
    (mald u 72 33 v1).bind fun x2 =>
    (m5_takeDigits x2 v1 v2 u).bind fun u3 =>
    (m5_settled x2 u3).bind fun q4 =>
    if (w32 q4.1) = 2 then
      some ((-3), q4.2)
    else
      (m5_because_l48 x2 NN 0 0 q4.2).bind fun q5 =>
      (m5_because_l109 x2 q5.1 NN q5.1 0 q5.2).bind fun q6 =>
      some (q6.1, q6.2)
  else
    (m5_noEvent v1 v2 u).bind fun x8 =>
    some (x8, u)
noncomputable def m5_decider_l26 (v1 : Int) (v2 : Int) (v3 : Int) : Nat → Int → Mu → Option ((Mu) ⊕ (Mu))
  | 0, _, _ => none
  | n + 1, v4, u =>
    (mald u 12 14 v3).bind fun x1 =>
    if (w32 x1) ≤ (w32 v4) then
      some (.inr u)
    else
      (m5_factAt v1 v4 v2 u).bind fun x2 =>
      (mast u 59 8 v4 x2).bind fun u3 =>
      (mald u3 59 8 v4).bind fun x4 =>
      if 0 ≤ (w32 x4) then
        m5_decider_l26 v1 v2 v3 n (v4 + 1) u3
      else
        some (.inl u3)
noncomputable def m5_decider (v1 : Int) (v2 : Int) (u : Mu) : Option (Int × Mu) :=
  (m5_noEvent v1 v2 u).bind fun x1 =>
  if 0 ≤ (w32 x1) then
    (mald u 72 33 v1).bind fun x2 =>
    (m5_decider_l26 v1 v2 x2 NN 0 u).bind
      (Sum.elim
        (fun q3 =>
          some ((-3), q3))
        (fun q4 =>
          (m5_answers x2 q4).bind fun q5 =>
          some ((q5.2.1 62), q5.2)))
  else
    (m5_noEvent v1 v2 u).bind fun x6 =>
    some (x6, u)
noncomputable def m5_countWays_b42 (kh : Int → Mu → Option (Mu)) (v1 : Int) (s1 : Int) (u : Mu) : Option (Mu) :=
  (mald u 78 2 s1).bind fun x1 =>
  (mast u 78 2 s1 (x1 + 1)).bind fun u2 =>
  (m5_nextWay v1 u2).bind fun q3 =>
  kh q3.1 q3.2
noncomputable def m5_countWays_l21 (v1 : Int) : Nat → Int → Mu → Option (Mu)
  | 0, _, _ => none
  | n + 1, v2, u =>
    if (w32 v2) = 0 then
      some u
    else
      (m5_wayAnswer v1 u).bind fun x1 =>
      if (w32 x1) = 0 then
        m5_countWays_b42 (m5_countWays_l21 v1 n) v1 0 u
      else
        m5_countWays_b42 (m5_countWays_l21 v1 n) v1 1 u
noncomputable def m5_countWays (v1 : Int) (u : Mu) : Option (Mu) :=
  (mast u 78 2 0 0).bind fun u1 =>
  (mast u1 78 2 1 0).bind fun u2 =>
  (m5_firstWay v1 u2).bind fun u3 =>
  (m5_countWays_l21 v1 NN 1 u3).bind fun q4 =>
  some q4
noncomputable def m5_ways (v1 : Int) (v2 : Int) (v3 : Int) (u : Mu) : Option (Int × Mu) :=
  (m5_noEvent v1 v2 u).bind fun x1 =>
  if 0 ≤ (w32 x1) then
    if (w32 v3) < 0 then
      some ((-2), u)
    else
      if (w32 v3) ≤ 1 then
        (mald u 72 33 v1).bind fun x2 =>
        (m5_takeDigits x2 v1 v2 u).bind fun u3 =>
        (mald u3 72 33 v1).bind fun x4 =>
        (m5_countWays x4 u3).bind fun u5 =>
        (mald u5 78 2 v3).bind fun x6 =>
        some (x6, u5)
      else
        some ((-2), u)
  else
    (m5_noEvent v1 v2 u).bind fun x9 =>
    some (x9, u)
noncomputable def m5_nearest_b39 (v4 : Int) : Option (Int) :=
  some (v4 + 1)
noncomputable def m5_nearest (v0 : Int) (v2 : Int) : Option (Int) :=
  if w64 v2 = 0 then none else
  if w64 v2 = 0 then none else
  if (w64 v2) < (w64 (2 * (rem64 v0 v2))) then
    m5_nearest_b39 (div64 v0 v2)
  else
    if (w64 (2 * (rem64 v0 v2))) = (w64 v2) then
      if (w64 (rem64 (div64 v0 v2) 2)) = 1 then
        m5_nearest_b39 (div64 v0 v2)
      else
        some (div64 v0 v2)
    else
      some (div64 v0 v2)
noncomputable def m5_rowHolds_l43 (v1 : Int) (v3 : Int) (v4 : Int) : Nat → Int → Mu → Option (Mu)
  | 0, _, _ => none
  | n + 1, v6, u =>
    (mald u 12 14 v1).bind fun x1 =>
    if (w32 x1) ≤ (w32 v6) then
      some u
    else
      (mald u 77 8 v6).bind fun x2 =>
      (mald u 38 68096 ((608 * ((8 * v1) + v6)) + x2)).bind fun x3 =>
      (mast u 59 8 v6 x3).bind fun u4 =>
      m5_rowHolds_l43 v1 v3 v4 n (v6 + 1) u4
noncomputable def m5_rowHolds_b137 (kh : Int → Int → Mu → Option ((Mu) ⊕ (Int × Mu))) (v1 : Int) (v3 : Int) (v6 : Int) (u : Mu) : Option ((Mu) ⊕ (Int × Mu)) :=
  (m5_nextWay v1 u).bind fun q1 =>
  kh v6 q1.1 q1.2
noncomputable def m5_rowHolds_b121 (kh : Int → Int → Mu → Option ((Mu) ⊕ (Int × Mu))) (v1 : Int) (v3 : Int) (v4 : Int) (s0 : Int) (u : Mu) : Option ((Mu) ⊕ (Int × Mu)) :=
  if (w32 v4) < 0 then
    m5_rowHolds_b137 (kh) v1 v3 s0 u
  else
    if (w32 v4) = (w32 s0) then
      m5_rowHolds_b137 (kh) v1 v3 s0 u
    else
      some (.inl u)
noncomputable def m5_rowHolds_l35 (v1 : Int) (v3 : Int) : Nat → Int → Int → Mu → Option ((Mu) ⊕ (Int × Mu))
  | 0, _, _, _ => none
  | n + 1, v4, v5, u =>
    if (w32 v5) = 0 then
      some (.inr (v4, u))
    else
      (m5_rowHolds_l43 v1 v3 v4 NN 0 u).bind fun q1 =>
      (m5_findMeant v1 q1).bind fun u2 =>
      (mald u2 30 336 v3).bind fun x3 =>
      (mald u2 31 336 v3).bind fun x4 =>
      (m5_isTrue v1 x3 x4 u2).bind fun q5 =>
      if (w32 q5.1) = 0 then
        m5_rowHolds_b121 (m5_rowHolds_l35 v1 v3 n) v1 v3 v4 0 q5.2
      else
        m5_rowHolds_b121 (m5_rowHolds_l35 v1 v3 n) v1 v3 v4 1 q5.2
noncomputable def m5_rowHolds (v1 : Int) (v2 : Int) (u : Mu) : Option (Int × Mu) :=
  (mald u 30 336 ((24 * v1) + v2)).bind fun x1 =>
  (mald u 31 336 ((24 * v1) + v2)).bind fun x2 =>
  if (w32 x1) = (w32 x2) then
    some (1, u)
  else
    (m5_firstWay v1 u).bind fun u3 =>
    (m5_rowHolds_l35 v1 ((24 * v1) + v2) NN (-1) 1 u3).bind
      (Sum.elim
        (fun q4 =>
          some (2, q4))
        (fun q5 =>
          some (q5.1, q5.2)))
noncomputable def m5_price_b122 (kh : Int → Int → Int → Mu → Option ((Int × Mu) ⊕ (Mu) ⊕ (Int × Int × Mu))) (v3 : Int) (v4 : Int) (v6 : Int) (v8 : Int) (v11 : Int) (u : Mu) : Option ((Int × Mu) ⊕ (Mu) ⊕ (Int × Int × Mu)) :=
  kh (v4 + (v11 * v6)) v6 (v8 + 1) u
noncomputable def m5_price_l39 (v3 : Int) : Nat → Int → Int → Int → Mu → Option ((Int × Mu) ⊕ (Mu) ⊕ (Int × Int × Mu))
  | 0, _, _, _, _ => none
  | n + 1, v4, v6, v8, u =>
    (mald u 27 14 v3).bind fun x1 =>
    if (w32 x1) ≤ (w32 v8) then
      some (.inr (.inr (v4, v6, u)))
    else
      (m5_rowHolds v3 v8 u).bind fun q2 =>
      if (w32 q2.1) = 2 then
        some (.inl (v8, q2.2))
      else
        if (w32 q2.1) = 0 then
          m5_price_l39 v3 n v4 v6 (v8 + 1) q2.2
        else
          (mald q2.2 29 336 ((24 * v3) + v8)).bind fun x3 =>
          (mald q2.2 28 336 ((24 * v3) + v8)).bind fun x4 =>
          if (w32 x4) = 15 then
            m5_price_b122 (m5_price_l39 v3 n) v3 v4 v6 v8 (w32 x3) q2.2
          else
            (mald q2.2 28 336 ((24 * v3) + v8)).bind fun x5 =>
            if (w32 x5) = 17 then
              m5_price_b122 (m5_price_l39 v3 n) v3 v4 v6 v8 (w32 x3) q2.2
            else
              (mald q2.2 28 336 ((24 * v3) + v8)).bind fun x6 =>
              if (w32 x6) = 16 then
                m5_price_l39 v3 n (v4 * (w32 x3)) (v6 * 1000) (v8 + 1) q2.2
              else
                (mald q2.2 28 336 ((24 * v3) + v8)).bind fun x7 =>
                if (w32 x7) = 18 then
                  (m5_nearest v4 ((w32 x3) * v6)).bind fun x9 =>
                  if (w64 (x9 * (w32 x3))) ≤ 99999999 then
                    m5_price_l39 v3 n (x9 * (w32 x3)) 1 (v8 + 1) q2.2
                  else
                    some (.inr (.inl q2.2))
                else
                  if (w64 ((w32 x3) * v6)) ≤ (w64 v4) then
                    m5_price_l39 v3 n v4 v6 (v8 + 1) q2.2
                  else
                    m5_price_l39 v3 n ((w32 x3) * v6) v6 (v8 + 1) q2.2
noncomputable def m5_price (v1 : Int) (v2 : Int) (u : Mu) : Option (Int × Mu) :=
  (m5_noEvent v1 v2 u).bind fun x1 =>
  if 0 ≤ (w32 x1) then
    (mald u 72 33 v1).bind fun x2 =>
    (m5_takeDigits x2 v1 v2 u).bind fun u3 =>
    (m5_price_l39 x2 NN 0 1 0 u3).bind
      (Sum.elim
        (fun q4 =>
          some (((-100) - q4.1), q4.2))
        (Sum.elim
          (fun q5 =>
            some ((-4), q5))
          (fun q6 =>
            (m5_nearest q6.1 q6.2.1).bind fun x7 =>
            if (w64 x7) ≤ 99999999 then
              some (x7, q6.2.2)
            else
              some ((-4), q6.2.2))))
  else
    (m5_noEvent v1 v2 u).bind fun x9 =>
    some (x9, u)
noncomputable def m5_policy  (u : Mu) : Option (Int × Mu) :=
  if (w32 (u.1 81)) = 12 then
    some ((-4), u)
  else
    (some (ms u 81 ((u.1 81) + 1))).bind fun u1 =>
    (mast u1 82 13 (u1.1 81) 0).bind fun u2 =>
    some ((u2.1 81), u2)
noncomputable def m5_isPolicy (v1 : Int) (u : Mu) : Option (Int) :=
  if (w32 v1) < 1 then
    some 0
  else
    if (w32 (u.1 81)) < (w32 v1) then
      some 0
    else
      some 1
noncomputable def m5_change_b65 (v1 : Int) (v2 : Int) (v3 : Int) (v4 : Int) (v5 : Int) (u : Mu) : Option (Int × Mu) :=
  (m5_isDay v4).bind fun x1 =>
  if (w32 x1) = 0 then
    some ((-2), u)
  else
    (m5_isDay v5).bind fun x2 =>
    if (w32 x2) = 0 then
      some ((-2), u)
    else
      (mald u 82 13 v1).bind fun x3 =>
      if (w32 x3) = 24 then
        some ((-4), u)
      else
        (mald u 82 13 v1).bind fun x4 =>
        (mast u 83 312 ((24 * v1) + x4) v2).bind fun u5 =>
        (mast u5 84 312 ((24 * v1) + x4) v3).bind fun u6 =>
        (mast u6 85 312 ((24 * v1) + x4) v4).bind fun u7 =>
        (mast u7 86 312 ((24 * v1) + x4) v5).bind fun u8 =>
        (mald u8 82 13 v1).bind fun x9 =>
        (mast u8 82 13 v1 (x9 + 1)).bind fun u10 =>
        (mald u10 82 13 v1).bind fun x11 =>
        some (x11, u10)
noncomputable def m5_change_b51 (v1 : Int) (v2 : Int) (v3 : Int) (v4 : Int) (v5 : Int) (u : Mu) : Option (Int × Mu) :=
  if (w32 v2) = 2 then
    if (w32 v3) < 0 then
      some ((-2), u)
    else
      if 1 < (w32 v3) then
        some ((-2), u)
      else
        m5_change_b65 v1 v2 v3 v4 v5 u
  else
    m5_change_b65 v1 v2 v3 v4 v5 u
noncomputable def m5_change_b35 (v1 : Int) (v2 : Int) (v3 : Int) (v4 : Int) (v5 : Int) (u : Mu) : Option (Int × Mu) :=
  if (w32 v2) = 1 then
    if (w32 v3) < 0 then
      some ((-2), u)
    else
      if 99999999 < (w32 v3) then
        some ((-2), u)
      else
        m5_change_b51 v1 v2 v3 v4 v5 u
  else
    m5_change_b51 v1 v2 v3 v4 v5 u
noncomputable def m5_change (v1 : Int) (v2 : Int) (v3 : Int) (v4 : Int) (v5 : Int) (u : Mu) : Option (Int × Mu) :=
  (m5_isPolicy v1 u).bind fun x1 =>
  if (w32 x1) = 0 then
    some ((-1), u)
  else
    if (w32 v2) < 0 then
      some ((-1), u)
    else
      if 2 < (w32 v2) then
        some ((-1), u)
      else
        if (w32 v2) = 0 then
          if (w32 v3) = 0 then
            m5_change_b35 v1 v2 v3 v4 v5 u
          else
            (m5_isWording v3 u).bind fun x2 =>
            if (w32 x2) = 0 then
              some ((-1), u)
            else
              m5_change_b35 v1 v2 v3 v4 v5 u
        else
          m5_change_b35 v1 v2 v3 v4 v5 u
noncomputable def m5_held_b105 (kh : Int → Int → Int → Int → Option (Int)) (v1 : Int) (v2 : Int) (v3 : Int) (v4 : Int) (v8 : Int) (v9 : Int) (u : Mu) : Option (Int) :=
  (mald u 85 312 v9).bind fun x1 =>
  (mald u 86 312 v9).bind fun x2 =>
  (mald u 84 312 v9).bind fun x3 =>
  kh x1 x2 x3 (v8 + 1)
noncomputable def m5_held_l12 (v1 : Int) (v2 : Int) (v3 : Int) (v4 : Int) (u : Mu) : Nat → Int → Int → Int → Int → Option (Int)
  | 0, _, _, _, _ => none
  | n + 1, v5, v6, v7, v8 =>
    (mald u 82 13 v1).bind fun x1 =>
    if (w32 x1) ≤ (w32 v8) then
      some v7
    else
      (mald u 83 312 ((24 * v1) + v8)).bind fun x2 =>
      if (w32 x2) = (w32 v2) then
        (mald u 85 312 ((24 * v1) + v8)).bind fun x3 =>
        if (w32 v3) < (w32 x3) then
          m5_held_l12 v1 v2 v3 v4 u n v5 v6 v7 (v8 + 1)
        else
          (mald u 86 312 ((24 * v1) + v8)).bind fun x4 =>
          if (w32 x4) ≤ (w32 v4) then
            (mald u 85 312 ((24 * v1) + v8)).bind fun x5 =>
            if (w32 v5) < (w32 x5) then
              m5_held_b105 (m5_held_l12 v1 v2 v3 v4 u n) v1 v2 v3 v4 v8 ((24 * v1) + v8) u
            else
              (mald u 85 312 ((24 * v1) + v8)).bind fun x6 =>
              if (w32 x6) = (w32 v5) then
                (mald u 86 312 ((24 * v1) + v8)).bind fun x7 =>
                if (w32 x7) < (w32 v6) then
                  m5_held_l12 v1 v2 v3 v4 u n v5 v6 v7 (v8 + 1)
                else
                  m5_held_b105 (m5_held_l12 v1 v2 v3 v4 u n) v1 v2 v3 v4 v8 ((24 * v1) + v8) u
              else
                m5_held_l12 v1 v2 v3 v4 u n v5 v6 v7 (v8 + 1)
          else
            m5_held_l12 v1 v2 v3 v4 u n v5 v6 v7 (v8 + 1)
      else
        m5_held_l12 v1 v2 v3 v4 u n v5 v6 v7 (v8 + 1)
noncomputable def m5_held (v1 : Int) (v2 : Int) (v3 : Int) (v4 : Int) (u : Mu) : Option (Int) :=
  (m5_held_l12 v1 v2 v3 v4 u NN (-1) (-1) 0 0).bind fun q1 =>
  some q1
noncomputable def m5_holds (v1 : Int) (v2 : Int) (v3 : Int) (v4 : Int) (u : Mu) : Option (Int) :=
  (m5_isPolicy v1 u).bind fun x1 =>
  if (w32 x1) = 0 then
    some (-1)
  else
    if (w32 v2) < 0 then
      some (-1)
    else
      if (w32 v2) ≤ 2 then
        (m5_isDay v3).bind fun x2 =>
        if (w32 x2) = 0 then
          some (-2)
        else
          (m5_isDay v4).bind fun x3 =>
          if (w32 x3) = 0 then
            some (-2)
          else
            (m5_held v1 v2 v3 v4 u).bind fun x4 =>
            some x4
      else
        some (-1)
noncomputable def m5_claim (v1 : Int) (v2 : Int) (v3 : Int) (v4 : Int) (u : Mu) : Option (Int × Mu) :=
  (m5_isPolicy v1 u).bind fun x1 =>
  if (w32 x1) = 0 then
    some ((-1), u)
  else
    (m5_isEvent v2 u).bind fun x2 =>
    if (w32 x2) = 0 then
      some ((-1), u)
    else
      (m5_isDay v3).bind fun x3 =>
      if (w32 x3) = 0 then
        some ((-2), u)
      else
        (m5_isDay v4).bind fun x4 =>
        if (w32 x4) = 0 then
          some ((-2), u)
        else
          if (w32 (u.1 87)) = 40 then
            some ((-4), u)
          else
            (some (ms u 87 ((u.1 87) + 1))).bind fun u5 =>
            (mast u5 88 41 (u5.1 87) v1).bind fun u6 =>
            (mast u6 89 41 (u6.1 87) v2).bind fun u7 =>
            (mast u7 90 41 (u7.1 87) v3).bind fun u8 =>
            (mast u8 91 41 (u8.1 87) v4).bind fun u9 =>
            (mast u9 92 41 (u9.1 87) 0).bind fun u10 =>
            some ((u10.1 87), u10)
noncomputable def m5_isClaim (v1 : Int) (u : Mu) : Option (Int) :=
  if (w32 v1) < 1 then
    some 0
  else
    if (w32 (u.1 87)) < (w32 v1) then
      some 0
    else
      some 1
noncomputable def m5_loss (v1 : Int) (v2 : Int) (v3 : Int) (u : Mu) : Option (Int × Mu) :=
  (m5_isClaim v1 u).bind fun x1 =>
  if (w32 x1) = 0 then
    some ((-1), u)
  else
    if (w32 v2) < 0 then
      some ((-2), u)
    else
      if 99999999 < (w32 v2) then
        some ((-2), u)
      else
        (m5_isDay v3).bind fun x2 =>
        if (w32 x2) = 0 then
          some ((-2), u)
        else
          (mald u 92 41 v1).bind fun x3 =>
          if (w32 x3) = 6 then
            some ((-4), u)
          else
            (mald u 92 41 v1).bind fun x4 =>
            (mast u 93 246 ((6 * v1) + x4) v2).bind fun u5 =>
            (mald u5 92 41 v1).bind fun x6 =>
            (mast u5 94 246 ((6 * v1) + x6) v3).bind fun u7 =>
            (mald u7 92 41 v1).bind fun x8 =>
            (mast u7 92 41 v1 (x8 + 1)).bind fun u9 =>
            (mald u9 92 41 v1).bind fun x10 =>
            some (x10, u9)
noncomputable def m5_lesser (v0 : Int) (v2 : Int) : Option (Int) :=
  if (w64 v2) ≤ (w64 v0) then
    some v2
  else
    some v0
noncomputable def m5_lossAt_l8 (v1 : Int) (v2 : Int) (u : Mu) : Nat → Int → Int → Int → Option (Int)
  | 0, _, _, _ => none
  | n + 1, v3, v4, v5 =>
    (mald u 92 41 v1).bind fun x1 =>
    if (w32 x1) ≤ (w32 v5) then
      some v4
    else
      (mald u 94 246 ((6 * v1) + v5)).bind fun x2 =>
      if (w32 v2) < (w32 x2) then
        m5_lossAt_l8 v1 v2 u n v3 v4 (v5 + 1)
      else
        (mald u 94 246 ((6 * v1) + v5)).bind fun x3 =>
        if (w32 x3) < (w32 v3) then
          m5_lossAt_l8 v1 v2 u n v3 v4 (v5 + 1)
        else
          (mald u 94 246 ((6 * v1) + v5)).bind fun x4 =>
          (mald u 93 246 ((6 * v1) + v5)).bind fun x5 =>
          m5_lossAt_l8 v1 v2 u n x4 x5 (v5 + 1)
noncomputable def m5_lossAt (v1 : Int) (v2 : Int) (u : Mu) : Option (Int) :=
  (m5_lossAt_l8 v1 v2 u NN (-1) 0 0).bind fun q1 =>
  some q1
noncomputable def m5_due_b174 (kh : Int → Int → Int → Option (Int × Int)) (v1 : Int) (v2 : Int) (v3 : Int) (v4 : Int) (v6 : Int) (v9 : Int) (v11 : Int) (s0 : Int) (s1 : Int) (u : Mu) : Option (Int × Int) :=
  kh (s0 + s1) v9 (v11 + 1)
noncomputable def m5_due_l99 (v1 : Int) (v2 : Int) (v3 : Int) (v4 : Int) (v6 : Int) (u : Mu) : Nat → Int → Int → Int → Option (Int × Int)
  | 0, _, _, _ => none
  | n + 1, v7, v9, v11 =>
    if (w32 (u.1 87)) < (w32 v11) then
      some (v7, v9)
    else
      (mald u 88 41 v11).bind fun x1 =>
      if (w32 x1) = (w32 v3) then
        (mald u 96 41 v11).bind fun x2 =>
        if (w32 x2) = 0 then
          m5_due_l99 v1 v2 v3 v4 v6 u n v7 v9 (v11 + 1)
        else
          (mald u 95 41 v11).bind fun x3 =>
          (mald u 90 41 v11).bind fun x4 =>
          if (w32 (div32 x4 365)) = (w32 (div32 v4 365)) then
            (mald u 95 41 v11).bind fun x5 =>
            m5_due_b174 (m5_due_l99 v1 v2 v3 v4 v6 u n) v1 v2 v3 v4 v6 (v9 + x3) v11 v7 x5 u
          else
            m5_due_b174 (m5_due_l99 v1 v2 v3 v4 v6 u n) v1 v2 v3 v4 v6 (v9 + x3) v11 v7 0 u
      else
        m5_due_l99 v1 v2 v3 v4 v6 u n v7 v9 (v11 + 1)
noncomputable def m5_due_b378 (v2 : Int) (v3 : Int) (v4 : Int) (v9 : Int) (s0 : Int) (u : Mu) : Option (Int × Mu) :=
  (m5_held v3 1 v4 v2 u).bind fun x1 =>
  (m5_lesser s0 ((w32 x1) - v9)).bind fun x2 =>
  if 0 ≤ (w64 x2) then
    some (x2, u)
  else
    some (0, u)
noncomputable def m5_due_b341 (v2 : Int) (v3 : Int) (v4 : Int) (v9 : Int) (v11 : Int) (s0 : Int) (u : Mu) : Option (Int × Mu) :=
  (mald u 32 70 (v11 + 4)).bind fun x1 =>
  if 0 ≤ (w32 x1) then
    (mald u 32 70 (v11 + 4)).bind fun x2 =>
    (m5_lesser s0 ((w32 x2) - v9)).bind fun x3 =>
    m5_due_b378 v2 v3 v4 v9 x3 u
  else
    m5_due_b378 v2 v3 v4 v9 s0 u
noncomputable def m5_due_b304 (v2 : Int) (v3 : Int) (v4 : Int) (v7 : Int) (v9 : Int) (v11 : Int) (s0 : Int) (u : Mu) : Option (Int × Mu) :=
  (mald u 32 70 (v11 + 3)).bind fun x1 =>
  if 0 ≤ (w32 x1) then
    (mald u 32 70 (v11 + 3)).bind fun x2 =>
    (m5_lesser s0 ((w32 x2) - v7)).bind fun x3 =>
    m5_due_b341 v2 v3 v4 v9 v11 x3 u
  else
    m5_due_b341 v2 v3 v4 v9 v11 s0 u
noncomputable def m5_due_b264 (v2 : Int) (v3 : Int) (v4 : Int) (v7 : Int) (v9 : Int) (v11 : Int) (s0 : Int) (s1 : Int) (u : Mu) : Option (Int × Mu) :=
  (mald u 32 70 (v11 + 2)).bind fun x1 =>
  if 0 ≤ (w32 x1) then
    (mald u 32 70 (v11 + 2)).bind fun x2 =>
    (m5_lesser (div64 (s0 * (w32 s1)) 1000) (w32 x2)).bind fun x3 =>
    m5_due_b304 v2 v3 v4 v7 v9 v11 x3 u
  else
    m5_due_b304 v2 v3 v4 v7 v9 v11 (div64 (s0 * (w32 s1)) 1000) u
noncomputable def m5_due_b233 (v2 : Int) (v3 : Int) (v4 : Int) (v7 : Int) (v9 : Int) (v11 : Int) (s0 : Int) (u : Mu) : Option (Int × Mu) :=
  (mald u 32 70 (v11 + 1)).bind fun x1 =>
  if 0 ≤ (w32 x1) then
    (mald u 32 70 (v11 + 1)).bind fun x2 =>
    m5_due_b264 v2 v3 v4 v7 v9 v11 s0 x2 u
  else
    m5_due_b264 v2 v3 v4 v7 v9 v11 s0 1000 u
noncomputable def m5_due_b216 (v2 : Int) (v3 : Int) (v4 : Int) (v7 : Int) (v9 : Int) (v11 : Int) (s0 : Int) (s1 : Int) (u : Mu) : Option (Int × Mu) :=
  if 0 ≤ (w64 (w32 (s0 - s1))) then
    m5_due_b233 v2 v3 v4 v7 v9 v11 (w32 (s0 - s1)) u
  else
    m5_due_b233 v2 v3 v4 v7 v9 v11 0 u
noncomputable def m5_due (v1 : Int) (v2 : Int) (u : Mu) : Option (Int × Mu) :=
  (mald u 88 41 v1).bind fun x1 =>
  (mald u 90 41 v1).bind fun x2 =>
  (mald u 89 41 v1).bind fun x3 =>
  (m5_held x1 0 x2 v2 u).bind fun x4 =>
  (m5_held x1 2 x2 v2 u).bind fun x5 =>
  if (w32 x5) = 0 then
    some (0, u)
  else
    if (w32 x4) = 0 then
      some (0, u)
    else
      (mald u 72 33 x3).bind fun x6 =>
      (m5_isComparable x4 x6 u).bind fun x7 =>
      if (w32 x7) = 0 then
        some (0, u)
      else
        (m5_takeDigits x4 x3 v2 u).bind fun u8 =>
        (m5_settled x4 u8).bind fun q9 =>
        if (w32 q9.1) = 1 then
          (m5_due_l99 v1 v2 x1 x2 x4 q9.2 NN 0 0 1).bind fun q10 =>
          (m5_lossAt v1 v2 q9.2).bind fun x11 =>
          (mald q9.2 32 70 (5 * x4)).bind fun x12 =>
          if 0 ≤ (w32 x12) then
            (mald q9.2 32 70 (5 * x4)).bind fun x13 =>
            m5_due_b216 v2 x1 x2 q10.1 q10.2 (5 * x4) x11 x13 q9.2
          else
            m5_due_b216 v2 x1 x2 q10.1 q10.2 (5 * x4) x11 0 q9.2
        else
          some (0, q9.2)
noncomputable def m5_payAll_l2 (v1 : Int) (v2 : Int) : Nat → Int → Mu → Option (Mu)
  | 0, _, _ => none
  | n + 1, v3, u =>
    if (w32 (u.1 87)) < (w32 v3) then
      some u
    else
      (mald u 88 41 v3).bind fun x1 =>
      if (w32 x1) = (w32 v1) then
        (mast u 95 41 v3 0).bind fun u2 =>
        (mast u2 96 41 v3 (nz 0)).bind fun u3 =>
        m5_payAll_l2 v1 v2 n (v3 + 1) u3
      else
        m5_payAll_l2 v1 v2 n (v3 + 1) u
noncomputable def m5_payAll_b115 (kh : Int → Int → Option (Int)) (v1 : Int) (v2 : Int) (v5 : Int) (u : Mu) : Option (Int) :=
  kh v5 (v5 + 1)
noncomputable def m5_payAll_l52 (v1 : Int) (v2 : Int) (u : Mu) : Nat → Int → Int → Option (Int)
  | 0, _, _ => none
  | n + 1, v4, v5 =>
    if (w32 (u.1 87)) < (w32 v5) then
      some v4
    else
      (mald u 88 41 v5).bind fun x1 =>
      if (w32 x1) = (w32 v1) then
        (mald u 96 41 v5).bind fun x2 =>
        if (w32 x2) = 0 then
          (mald u 91 41 v5).bind fun x3 =>
          if (w32 v2) < (w32 x3) then
            m5_payAll_l52 v1 v2 u n v4 (v5 + 1)
          else
            if (w32 v4) = 0 then
              m5_payAll_b115 (m5_payAll_l52 v1 v2 u n) v1 v2 v5 u
            else
              (mald u 90 41 v5).bind fun x4 =>
              (mald u 90 41 v4).bind fun x5 =>
              if (w32 x5) ≤ (w32 x4) then
                m5_payAll_l52 v1 v2 u n v4 (v5 + 1)
              else
                m5_payAll_b115 (m5_payAll_l52 v1 v2 u n) v1 v2 v5 u
        else
          m5_payAll_l52 v1 v2 u n v4 (v5 + 1)
      else
        m5_payAll_l52 v1 v2 u n v4 (v5 + 1)
noncomputable def m5_payAll_b135 (kh : Int → Mu → Option (Mu)) (v1 : Int) (v2 : Int) (v4 : Int) (s0 : Int) (u : Mu) : Option (Mu) :=
  if (w32 s0) = 0 then
    kh s0 u
  else
    (m5_due v4 v2 u).bind fun q1 =>
    (mast q1.2 95 41 v4 q1.1).bind fun u2 =>
    (mast u2 96 41 v4 (nz 1)).bind fun u3 =>
    kh s0 u3
noncomputable def m5_payAll_l42 (v1 : Int) (v2 : Int) : Nat → Int → Mu → Option (Mu)
  | 0, _, _ => none
  | n + 1, v3, u =>
    if (w32 v3) = 0 then
      some u
    else
      (m5_payAll_l52 v1 v2 u NN 0 1).bind fun q1 =>
      if (w32 q1) ≤ 0 then
        m5_payAll_b135 (m5_payAll_l42 v1 v2 n) v1 v2 q1 0 u
      else
        m5_payAll_b135 (m5_payAll_l42 v1 v2 n) v1 v2 q1 1 u
noncomputable def m5_payAll (v1 : Int) (v2 : Int) (u : Mu) : Option (Mu) :=
  (m5_payAll_l2 v1 v2 NN 1 u).bind fun q1 =>
  (m5_payAll_l42 v1 v2 NN 1 q1).bind fun q2 =>
  some q2
noncomputable def m5_pay (v1 : Int) (v2 : Int) (u : Mu) : Option (Int × Mu) :=
  (m5_isClaim v1 u).bind fun x1 =>
  if (w32 x1) = 0 then
    some ((-1), u)
  else
    (m5_isDay v2).bind fun x2 =>
    if (w32 x2) = 0 then
      some ((-2), u)
    else
      (mald u 88 41 v1).bind fun x3 =>
      (m5_payAll x3 v2 u).bind fun u4 =>
      (mald u4 95 41 v1).bind fun x5 =>
      some (x5, u4)
noncomputable def m5_used_b85 (kh : Int → Int → Option (Int)) (v1 : Int) (v2 : Int) (v4 : Int) (v6 : Int) (u : Mu) : Option (Int) :=
  (mald u 95 41 v6).bind fun x1 =>
  kh (v4 + x1) (v6 + 1)
noncomputable def m5_used_l46 (v1 : Int) (v2 : Int) (u : Mu) : Nat → Int → Int → Option (Int)
  | 0, _, _ => none
  | n + 1, v4, v6 =>
    if (w32 (u.1 87)) < (w32 v6) then
      some v4
    else
      (mald u 88 41 v6).bind fun x1 =>
      if (w32 x1) = (w32 v1) then
        if (w32 v2) < 0 then
          m5_used_b85 (m5_used_l46 v1 v2 u n) v1 v2 v4 v6 u
        else
          (mald u 90 41 v6).bind fun x2 =>
          if (w32 (div32 x2 365)) = (w32 v2) then
            m5_used_b85 (m5_used_l46 v1 v2 u n) v1 v2 v4 v6 u
          else
            m5_used_l46 v1 v2 u n v4 (v6 + 1)
      else
        m5_used_l46 v1 v2 u n v4 (v6 + 1)
noncomputable def m5_used (v1 : Int) (v2 : Int) (v3 : Int) (u : Mu) : Option (Int × Mu) :=
  (m5_isPolicy v1 u).bind fun x1 =>
  if (w32 x1) = 0 then
    some ((-1), u)
  else
    if (w32 v2) < (-1) then
      some ((-2), u)
    else
      if 27 < (w32 v2) then
        some ((-2), u)
      else
        (m5_isDay v3).bind fun x2 =>
        if (w32 x2) = 0 then
          some ((-2), u)
        else
          (m5_payAll v1 v3 u).bind fun u3 =>
          (m5_used_l46 v1 v2 u3 NN 0 1).bind fun q4 =>
          some (q4, u3)
noncomputable def m5_treaty_b49 (v1 : Int) (v2 : Int) (v3 : Int) (u : Mu) : Option (Int × Mu) :=
  if (w32 (u.1 97)) = 6 then
    some ((-4), u)
  else
    (mast u 98 6 (u.1 97) v1).bind fun u1 =>
    (mast u1 99 6 (u1.1 97) v2).bind fun u2 =>
    (mast u2 100 6 (u2.1 97) v3).bind fun u3 =>
    (some (ms u3 97 ((u3.1 97) + 1))).bind fun u4 =>
    some (((u4.1 97) - 1), u4)
noncomputable def m5_treaty_b27 (v1 : Int) (v2 : Int) (v3 : Int) (s0 : Int) (s1 : Int) (u : Mu) : Option (Int × Mu) :=
  if (w32 s1) < (w32 s0) then
    some ((-2), u)
  else
    if (w32 v1) = 1 then
      if (w32 v3) < 0 then
        some ((-2), u)
      else
        if (w32 v3) ≤ 99999999 then
          m5_treaty_b49 v1 v2 v3 u
        else
          some ((-2), u)
    else
      m5_treaty_b49 v1 v2 v3 u
noncomputable def m5_treaty (v1 : Int) (v2 : Int) (v3 : Int) (u : Mu) : Option (Int × Mu) :=
  if (w32 v1) < 0 then
    some ((-2), u)
  else
    if 1 < (w32 v1) then
      some ((-2), u)
    else
      if (w32 v2) < 0 then
        some ((-2), u)
      else
        if (w32 v1) = 0 then
          m5_treaty_b27 v1 v2 v3 v2 1000 u
        else
          m5_treaty_b27 v1 v2 v3 v2 99999999 u
noncomputable def m5_takes_b83 (kh : Int → Int → Option ((Int) ⊕ (Int))) (v3 : Int) (v4 : Int) (v6 : Int) (s0 : Int) (u : Mu) : Option ((Int) ⊕ (Int)) :=
  if (w32 v6) = (w32 v3) then
    some (.inl s0)
  else
    kh (v4 - s0) (v6 + 1)
noncomputable def m5_takes_b72 (kh : Int → Int → Option ((Int) ⊕ (Int))) (v3 : Int) (v4 : Int) (v6 : Int) (s0 : Int) (u : Mu) : Option ((Int) ⊕ (Int)) :=
  (mald u 100 6 v6).bind fun x1 =>
  (m5_lesser s0 (w32 x1)).bind fun x2 =>
  m5_takes_b83 (kh) v3 v4 v6 x2 u
noncomputable def m5_takes_l6 (v3 : Int) (u : Mu) : Nat → Int → Int → Option ((Int) ⊕ (Int))
  | 0, _, _ => none
  | n + 1, v4, v6 =>
    if (w32 (u.1 97)) ≤ (w32 v6) then
      some (.inr v4)
    else
      (mald u 98 6 v6).bind fun x1 =>
      if (w32 x1) = 0 then
        (mald u 99 6 v6).bind fun x5 =>
        m5_takes_b83 (m5_takes_l6 v3 u n) v3 v4 v6 (div64 (v4 * (w32 x5)) 1000) u
      else
        (mald u 99 6 v6).bind fun x2 =>
        if (w64 v4) ≤ (w64 (w32 x2)) then
          m5_takes_b72 (m5_takes_l6 v3 u n) v3 v4 v6 0 u
        else
          (mald u 99 6 v6).bind fun x3 =>
          m5_takes_b72 (m5_takes_l6 v3 u n) v3 v4 v6 (v4 - (w32 x3)) u
noncomputable def m5_takes (v1 : Int) (v3 : Int) (u : Mu) : Option (Int) :=
  (m5_takes_l6 v3 u NN v1 0).bind
    (Sum.elim
      (fun q1 =>
        some q1)
      (fun q2 =>
        some q2))
noncomputable def m5_ceded (v1 : Int) (v2 : Int) (v3 : Int) (u : Mu) : Option (Int × Mu) :=
  (m5_isClaim v1 u).bind fun x1 =>
  if (w32 x1) = 0 then
    some ((-1), u)
  else
    if (w32 v2) < (-1) then
      some ((-1), u)
    else
      if (w32 v2) < (w32 (u.1 97)) then
        (m5_isDay v3).bind fun x2 =>
        if (w32 x2) = 0 then
          some ((-2), u)
        else
          (m5_pay v1 v3 u).bind fun q3 =>
          (m5_takes (w32 q3.1) v2 q3.2).bind fun x4 =>
          some (x4, q3.2)
      else
        some ((-1), u)
noncomputable def m5_book (v1 : Int) (v2 : Int) (v3 : Int) (v5 : Int) (u : Mu) : Option (Mu) :=
  (mast u 103 400 (u.1 102) v1).bind fun u1 =>
  (mast u1 104 400 (u1.1 102) v2).bind fun u2 =>
  (mast u2 105 400 (u2.1 102) v3).bind fun u3 =>
  (mast u3 106 400 (u3.1 102) v5).bind fun u4 =>
  (some (ms u4 102 ((u4.1 102) + 1))).bind fun u5 =>
  some u5
noncomputable def m5_close_b85 (kh : Int → Int → Mu → Option (Int × Mu)) (v1 : Int) (v3 : Int) (s0 : Int) (s1 : Int) (u : Mu) : Option (Int × Mu) :=
  kh (s0 + s1) (v3 + 1) u
noncomputable def m5_close_b57 (kh : Int → Int → Mu → Option (Int × Mu)) (v1 : Int) (v3 : Int) (v4 : Int) (s0 : Int) (s1 : Int) (u : Mu) : Option (Int × Mu) :=
  (m5_takes v4 (-1) u).bind fun x1 =>
  (mald u 108 41 v3).bind fun x2 =>
  if (w64 (v4 - x1)) = (w64 x2) then
    m5_close_b85 (kh) v1 v3 (s0 + s1) 0 u
  else
    m5_close_b85 (kh) v1 v3 (s0 + s1) 2 u
noncomputable def m5_close_l22 (v1 : Int) : Nat → Int → Int → Mu → Option (Int × Mu)
  | 0, _, _, _ => none
  | n + 1, v2, v3, u =>
    if (w32 (u.1 87)) < (w32 v3) then
      some (v2, u)
    else
      (m5_pay v3 v1 u).bind fun q1 =>
      (mald q1.2 107 41 v3).bind fun x2 =>
      if (w64 (w32 q1.1)) = (w64 x2) then
        m5_close_b57 (m5_close_l22 v1 n) v1 v3 (w32 q1.1) v2 0 q1.2
      else
        m5_close_b57 (m5_close_l22 v1 n) v1 v3 (w32 q1.1) v2 2 q1.2
noncomputable def m5_close_b196 (kh : Int → Mu → Option (Mu)) (v1 : Int) (v2 : Int) (v3 : Int) (v6 : Int) (u : Mu) : Option (Mu) :=
  (mald u 108 41 v3).bind fun x1 =>
  if (w64 v6) = (w64 x1) then
    kh (v3 + 1) u
  else
    (mald u 108 41 v3).bind fun x2 =>
    (m5_book v3 2 (v6 - x2) v1 u).bind fun u3 =>
    (mald u3 108 41 v3).bind fun x4 =>
    (m5_book v3 3 (x4 - v6) v1 u3).bind fun u5 =>
    (mast u5 108 41 v3 v6).bind fun u6 =>
    kh (v3 + 1) u6
noncomputable def m5_close_l115 (v1 : Int) (v2 : Int) : Nat → Int → Mu → Option (Mu)
  | 0, _, _ => none
  | n + 1, v3, u =>
    if (w32 (u.1 87)) < (w32 v3) then
      some u
    else
      (m5_pay v3 v1 u).bind fun q1 =>
      (m5_takes (w32 q1.1) (-1) q1.2).bind fun x2 =>
      (mald q1.2 107 41 v3).bind fun x3 =>
      if (w64 (w32 q1.1)) = (w64 x3) then
        m5_close_b196 (m5_close_l115 v1 v2 n) v1 v2 v3 ((w32 q1.1) - x2) q1.2
      else
        (mald q1.2 107 41 v3).bind fun x4 =>
        (m5_book v3 0 (x4 - (w32 q1.1)) v1 q1.2).bind fun u5 =>
        (mald u5 107 41 v3).bind fun x6 =>
        (m5_book v3 1 ((w32 q1.1) - x6) v1 u5).bind fun u7 =>
        (mast u7 107 41 v3 (w32 q1.1)).bind fun u8 =>
        m5_close_b196 (m5_close_l115 v1 v2 n) v1 v2 v3 ((w32 q1.1) - x2) u8
noncomputable def m5_close (v1 : Int) (u : Mu) : Option (Int × Mu) :=
  (m5_isDay v1).bind fun x1 =>
  if (w32 x1) = 0 then
    some ((-2), u)
  else
    if (w32 (u.1 101)) ≤ (w32 v1) then
      (m5_close_l22 v1 NN 0 1 u).bind fun q2 =>
      if (w32 ((q2.2.1 102) + q2.1)) ≤ 400 then
        (some (ms q2.2 101 v1)).bind fun u3 =>
        (m5_close_l115 v1 q2.1 NN 1 u3).bind fun q4 =>
        some (q2.1, q4)
      else
        some ((-4), q2.2)
    else
      some ((-2), u)
noncomputable def m5_row (v1 : Int) (v2 : Int) (u : Mu) : Option (Int) :=
  if (w32 v1) < 0 then
    some (-1)
  else
    if (w32 v1) < (w32 (u.1 102)) then
      if (w32 v2) = 0 then
        (mald u 103 400 v1).bind fun x7 =>
        some x7
      else
        if (w32 v2) = 1 then
          (mald u 104 400 v1).bind fun x5 =>
          some x5
        else
          if (w32 v2) = 2 then
            (mald u 105 400 v1).bind fun x3 =>
            some x3
          else
            if (w32 v2) = 3 then
              (mald u 106 400 v1).bind fun x1 =>
              some x1
            else
              some (-2)
    else
      some (-1)
noncomputable def m5_balance_b30 (kh : Int → Int → Option (Int)) (v1 : Int) (v2 : Int) (v4 : Int) (u : Mu) : Option (Int) :=
  (mald u 105 400 v4).bind fun x1 =>
  kh (v2 + (w32 x1)) (v4 + 1)
noncomputable def m5_balance_l5 (v1 : Int) (u : Mu) : Nat → Int → Int → Option (Int)
  | 0, _, _ => none
  | n + 1, v2, v4 =>
    if (w32 (u.1 102)) ≤ (w32 v4) then
      some v2
    else
      if (w32 v1) = (-1) then
        m5_balance_b30 (m5_balance_l5 v1 u n) v1 v2 v4 u
      else
        (mald u 104 400 v4).bind fun x1 =>
        if (w32 x1) = (w32 v1) then
          m5_balance_b30 (m5_balance_l5 v1 u n) v1 v2 v4 u
        else
          m5_balance_l5 v1 u n v2 (v4 + 1)
noncomputable def m5_balance (v1 : Int) (u : Mu) : Option (Int) :=
  (m5_balance_l5 v1 u NN 0 0).bind fun q1 =>
  some q1
noncomputable def m5_paidAt_l18 (v1 : Int) (v5 : Int) : Nat → Int → Int → Mu → Option (Int × Mu)
  | 0, _, _, _ => none
  | n + 1, v3, v6, u =>
    if (w32 (u.1 81)) < (w32 v6) then
      some (v3, u)
    else
      (m5_used v6 v1 v5 u).bind fun q1 =>
      m5_paidAt_l18 v1 v5 n (v3 + q1.1) (v6 + 1) q1.2
noncomputable def m5_paidAt (v1 : Int) (v2 : Int) (u : Mu) : Option (Int × Mu) :=
  (m5_paidAt_l18 v1 ((((v1 + v2) + 1) * 365) - 1) NN 0 1 u).bind fun q1 =>
  some (q1.1, q1.2)
noncomputable def m5_paid (v1 : Int) (v2 : Int) (u : Mu) : Option (Int × Mu) :=
  if (w32 v1) < 0 then
    some ((-2), u)
  else
    if 9 < (w32 v1) then
      some ((-2), u)
    else
      if (w32 v2) < 0 then
        some ((-2), u)
      else
        if 9 < (w32 v2) then
          some ((-2), u)
        else
          if (w32 (v1 + v2)) ≤ 26 then
            (m5_paidAt v1 v2 u).bind fun q1 =>
            some (q1.1, q1.2)
          else
            some ((-2), u)
noncomputable def m5_end_l52 (v2 : Int) (v3 : Int) (v5 : Int) : Nat → Int → Int → Int → Mu → Option (Int × Int × Mu)
  | 0, _, _, _, _ => none
  | n + 1, v6, v8, v10, u =>
    if (w32 ((v2 - v5) - 1)) < (w32 v10) then
      some (v6, v8, u)
    else
      (m5_paidAt v10 (v5 + 1) u).bind fun q1 =>
      (m5_paidAt v10 v5 q1.2).bind fun q2 =>
      m5_end_l52 v2 v3 v5 n (v6 + q1.1) (v8 + q2.1) (v10 + 1) q2.2
noncomputable def m5_end_l37 (v2 : Int) : Nat → Int → Int → Mu → Option (Int × Mu)
  | 0, _, _, _ => none
  | n + 1, v3, v5, u =>
    if (w32 v2) ≤ (w32 v5) then
      some (v3, u)
    else
      (m5_end_l52 v2 v3 v5 NN 0 0 0 u).bind fun q1 =>
      if (w64 q1.2.1) = 0 then
        m5_end_l37 v2 n v3 (v5 + 1) q1.2.2
      else
        if w64 q1.2.1 = 0 then none else
        (m5_lesser (div64 (v3 * q1.1) q1.2.1) 2000000000).bind fun x3 =>
        m5_end_l37 v2 n x3 (v5 + 1) q1.2.2
noncomputable def m5_end (v1 : Int) (v2 : Int) (u : Mu) : Option (Int × Mu) :=
  if (w32 v2) < 0 then
    some ((-2), u)
  else
    if 9 < (w32 v2) then
      some ((-2), u)
    else
      if (w32 v1) < 0 then
        some ((-2), u)
      else
        if (w32 v1) ≤ (w32 v2) then
          (m5_paidAt v1 (v2 - v1) u).bind fun q1 =>
          (m5_end_l37 v2 NN q1.1 (v2 - v1) q1.2).bind fun q2 =>
          some (q2.1, q2.2)
        else
          some ((-2), u)
noncomputable def m5_size (v1 : Int) (v2 : Int) (u : Mu) : Option (Int × Mu) :=
  if (w32 v1) < 0 then
    some ((-2), u)
  else
    if 400 < (w32 v1) then
      some ((-2), u)
    else
      if (w32 v2) < 0 then
        some ((-2), u)
      else
        if (w32 v2) ≤ 100 then
          (mald u 109 401 v1).bind fun x1 =>
          if (w32 (((u.1 111) - x1) + v2)) ≤ 200 then
            (mald u 109 401 v1).bind fun x2 =>
            (some (ms u 111 ((u.1 111) + (v2 - x2)))).bind fun u3 =>
            (mast u3 109 401 v1 v2).bind fun u4 =>
            (some (ms u4 115 0)).bind fun u5 =>
            some (x2, u5)
          else
            some ((-4), u)
        else
          some ((-2), u)
noncomputable def m5_count (v1 : Int) (v2 : Int) (u : Mu) : Option (Int × Mu) :=
  if (w32 v1) < 0 then
    some ((-2), u)
  else
    if 4 < (w32 v1) then
      some ((-2), u)
    else
      if (w32 v2) < 0 then
        some ((-2), u)
      else
        if (w32 v2) ≤ 200 then
          (mald u 110 5 v1).bind fun x1 =>
          (mast u 110 5 v1 v2).bind fun u2 =>
          (some (ms u2 115 0)).bind fun u3 =>
          some (x1, u3)
        else
          some ((-2), u)
noncomputable def m5_findMasses_b36 (kh : Int → Mu → Option (Mu)) (v1 : Int) (s1 : Int) (s2 : Int) (u : Mu) : Option (Mu) :=
  (mast u 113 1601 s1 s2).bind fun u1 =>
  (mast u1 112 1601 v1 0).bind fun u2 =>
  kh (v1 + 1) u2
noncomputable def m5_findMasses_l15 : Nat → Int → Mu → Option (Mu)
  | 0, _, _ => none
  | n + 1, v1, u =>
    if 1600 < (w32 v1) then
      some u
    else
      if (w32 v1) = 0 then
        m5_findMasses_b36 (m5_findMasses_l15 n) v1 v1 1 u
      else
        m5_findMasses_b36 (m5_findMasses_l15 n) v1 v1 0 u
noncomputable def m5_findMasses_l68 (v1 : Int) (u : Mu) : Nat → Int → Int → Option (Int)
  | 0, _, _ => none
  | n + 1, v2, v4 =>
    if 4 ≤ (w32 v4) then
      some v2
    else
      m5_findMasses_l68 v1 u n (v2 * (w32 (u.1 111))) (v4 + 1)
noncomputable def m5_findMasses_l91 (v1 : Int) (v2 : Int) : Nat → Int → Mu → Option (Mu)
  | 0, _, _ => none
  | n + 1, v4, u =>
    if (w32 (400 * v1)) < (w32 v4) then
      some u
    else
      (mald u 112 1601 v4).bind fun x1 =>
      (mald u 113 1601 v4).bind fun x2 =>
      (mast u 112 1601 v4 (x1 + (v2 * x2))).bind fun u3 =>
      m5_findMasses_l91 v1 v2 n (v4 + 1) u3
noncomputable def m5_findMasses_l129 (v1 : Int) : Nat → Int → Mu → Option (Mu)
  | 0, _, _ => none
  | n + 1, v4, u =>
    if 1600 < (w32 v4) then
      some u
    else
      (mast u 114 1601 v4 0).bind fun u1 =>
      m5_findMasses_l129 v1 n (v4 + 1) u1
noncomputable def m5_findMasses_l170 (v1 : Int) (v4 : Int) : Nat → Int → Mu → Option (Mu)
  | 0, _, _ => none
  | n + 1, v5, u =>
    if (w32 (400 * v1)) < (w32 v5) then
      some u
    else
      (mald u 109 401 v4).bind fun x1 =>
      if (w32 x1) ≤ 0 then
        some u
      else
        (mald u 114 1601 (v5 + v4)).bind fun x2 =>
        (mald u 109 401 v4).bind fun x3 =>
        (mald u 113 1601 v5).bind fun x4 =>
        (mast u 114 1601 (v5 + v4) (x2 + ((w32 x3) * x4))).bind fun u5 =>
        m5_findMasses_l170 v1 v4 n (v5 + 1) u5
noncomputable def m5_findMasses_l154 (v1 : Int) : Nat → Int → Mu → Option (Mu)
  | 0, _, _ => none
  | n + 1, v4, u =>
    if 400 < (w32 v4) then
      some u
    else
      if 4 ≤ (w32 v1) then
        some u
      else
        (m5_findMasses_l170 v1 v4 NN 0 u).bind fun q1 =>
        m5_findMasses_l154 v1 n (v4 + 1) q1
noncomputable def m5_findMasses_l234 (v1 : Int) : Nat → Int → Mu → Option (Mu)
  | 0, _, _ => none
  | n + 1, v4, u =>
    if 1600 < (w32 v4) then
      some u
    else
      (mald u 114 1601 v4).bind fun x1 =>
      (mast u 113 1601 v4 x1).bind fun u2 =>
      m5_findMasses_l234 v1 n (v4 + 1) u2
noncomputable def m5_findMasses_b231 (kh : Int → Mu → Option (Mu)) (v1 : Int) (u : Mu) : Option (Mu) :=
  (m5_findMasses_l234 v1 NN 0 u).bind fun q1 =>
  kh (v1 + 1) q1
noncomputable def m5_findMasses_l52 : Nat → Int → Mu → Option (Mu)
  | 0, _, _ => none
  | n + 1, v1, u =>
    if 4 < (w32 v1) then
      some u
    else
      (mald u 110 5 v1).bind fun x1 =>
      (m5_findMasses_l68 v1 u NN (w32 x1) v1).bind fun q2 =>
      (m5_findMasses_l91 v1 q2 NN 0 u).bind fun q3 =>
      (m5_findMasses_l129 v1 NN 0 q3).bind fun q4 =>
      (m5_findMasses_l154 v1 NN 0 q4).bind fun q5 =>
      m5_findMasses_b231 (m5_findMasses_l52 n) v1 q5
noncomputable def m5_findMasses  (u : Mu) : Option (Mu) :=
  if (w32 (u.1 115)) = 0 then
    (some (ms u 115 1)).bind fun u1 =>
    (m5_findMasses_l15 NN 0 u1).bind fun q2 =>
    (m5_findMasses_l52 NN 0 q2).bind fun q3 =>
    some q3
  else
    some u
noncomputable def m5_mass_l27 (v1 : Int) (u : Mu) : Nat → Int → Int → Option (Int)
  | 0, _, _ => none
  | n + 1, v2, v4 =>
    if 1600 < (w32 v4) then
      some v2
    else
      if (w32 v1) = (-1) then
        (mald u 112 1601 v4).bind fun x1 =>
        m5_mass_l27 v1 u n (v2 + x1) (v4 + 1)
      else
        some v2
noncomputable def m5_mass_b22 (v1 : Int) (u : Mu) : Option (Int × Mu) :=
  (m5_mass_l27 v1 u NN 0 0).bind fun q1 =>
  some (q1, u)
noncomputable def m5_mass (v1 : Int) (u : Mu) : Option (Int × Mu) :=
  (m5_findMasses u).bind fun u1 =>
  if (w32 v1) < 0 then
    m5_mass_b22 v1 u1
  else
    if 1600 < (w32 v1) then
      m5_mass_b22 v1 u1
    else
      (mald u1 112 1601 v1).bind fun x2 =>
      some (x2, u1)
noncomputable def m5_quantile_l50 (v1 : Int) (v2 : Int) (v3 : Int) (u : Mu) : Nat → Int → Int → Option (Int)
  | 0, _, _ => none
  | n + 1, v5, v7 =>
    if (w64 ((w32 v1) * v3)) ≤ (w64 ((w32 v2) * v5)) then
      some v7
    else
      (mald u 112 1601 (v7 + 1)).bind fun x1 =>
      m5_quantile_l50 v1 v2 v3 u n (v5 + x1) (v7 + 1)
noncomputable def m5_quantile (v1 : Int) (v2 : Int) (u : Mu) : Option (Int × Mu) :=
  if (w32 v2) < 1 then
    some ((-2), u)
  else
    if 1000 < (w32 v2) then
      some ((-2), u)
    else
      if (w32 v1) < 0 then
        some ((-2), u)
      else
        if (w32 v1) ≤ (w32 v2) then
          (m5_mass (-1) u).bind fun q1 =>
          if (w64 q1.1) = 0 then
            some ((-3), q1.2)
          else
            (mald q1.2 112 1601 0).bind fun x2 =>
            (m5_quantile_l50 v1 v2 q1.1 q1.2 NN x2 0).bind fun q3 =>
            some (q3, q1.2)
        else
          some ((-2), u)
noncomputable def m5_beyond_l26 (v1 : Int) (u : Mu) : Nat → Int → Int → Option (Int)
  | 0, _, _ => none
  | n + 1, v2, v4 =>
    if 1600 < (w32 v4) then
      some v2
    else
      (mald u 112 1601 v4).bind fun x1 =>
      m5_beyond_l26 v1 u n (v2 + ((w32 (v4 - v1)) * x1)) (v4 + 1)
noncomputable def m5_beyond (v1 : Int) (u : Mu) : Option (Int × Mu) :=
  if (w32 v1) < 0 then
    some ((-2), u)
  else
    if (w32 v1) ≤ 1600 then
      (m5_findMasses u).bind fun u1 =>
      (m5_beyond_l26 v1 u1 NN 0 (v1 + 1)).bind fun q2 =>
      some (q2, u1)
    else
      some ((-2), u)
noncomputable def m5_told (v1 : Int) (u : Mu) : Option (Int) :=
  if (w32 v1) = 0 then
    some (u.1 11)
  else
  if (w32 v1) = 1 then
    some (u.1 71)
  else
  if (w32 v1) = 2 then
    some (u.1 81)
  else
  if (w32 v1) = 3 then
    some (u.1 87)
  else
  if (w32 v1) = 4 then
    some (u.1 97)
  else
  if (w32 v1) = 5 then
    some (u.1 102)
  else
  if (w32 v1) = 6 then
    some (u.1 111)
  else
  if (w32 v1) = 7 then
    some (u.1 2)
  else
    some (-2)

/-! the functions of the class, as read off its bytecode -/
noncomputable def fJ0_init (G : CG) (v0 : Option Nat) (u : Sg) : Option (Sg) :=
  v0.bind fun b1 =>
  some u
noncomputable def fJ1_init (G : CG) (v0 : Option Nat) (u : Sg) : Option (Sg) :=
  v0.bind fun b1 =>
  (fJ0_init G (some b1) u).bind fun u2 =>
  (pfI G.2.2.2.1 u2 6 200 (some b1) 0).bind fun u3 =>
  some u3
noncomputable def fJ8_checkIndex_b9 (v0 : Int) (v1 : Int) (v2 : Option Nat) : Option (Int) :=
  none
noncomputable def fJ8_checkIndex (v0 : Int) (v1 : Int) (v2 : Option Nat) : Option (Int) :=
  if (w32 v0) < 0 then
    fJ8_checkIndex_b9 v0 v1 v2
  else
    if (w32 v0) < (w32 v1) then
      some v0
    else
      fJ8_checkIndex_b9 v0 v1 v2
noncomputable def fJ13_checkIndex (v0 : Int) (v1 : Int) : Option (Int) :=
  (fJ8_checkIndex v0 v1 none).bind fun x1 =>
  some x1
noncomputable def fJ14_init (G : CG) (v0 : Option Nat) (u : Sg) : Option (Sg) :=
  v0.bind fun b1 =>
  some u
noncomputable def fJ15_longValue (G : CG) (v0 : Option Nat) (u : Sg) : Option (Int) :=
  (gfI u 29 1120 v0).bind fun x1 =>
  some x1
noncomputable def fJ15_init (G : CG) (v0 : Option Nat) (v1 : Int) (u : Sg) : Option (Sg) :=
  v0.bind fun b1 =>
  (fJ14_init G (some b1) u).bind fun u2 =>
  (pfI G.2.2.2.1 u2 29 1120 (some b1) v1).bind fun u3 =>
  some u3
noncomputable def fJ15_valueOf_b31 (G : CG) (v0 : Int) (u : Sg) : Option ((Option Nat × Sg) × Nat × Nat) :=
  bdU (zNew u 29 1) fun q1 =>
  (fJ15_init G (some q1.1) v0 q1.2).bind fun u2 =>
  some (((some q1.1), u2), 0, 0)
noncomputable def fJ15_valueOf (G : CG) (v0 : Int) (u : Sg) : Option ((Option Nat × Sg) × Nat × Nat) :=
  if (w64 v0) < (-128) then
    fJ15_valueOf_b31 G v0 u
  else
    if 127 < (w64 v0) then
      fJ15_valueOf_b31 G v0 u
    else
      (alR u 6 (G.2.2.2.2 8) (v0 + 128)).bind fun x1 =>
      some ((x1, u), 0, 0)
noncomputable def fJ16_bitCount (v0 : Int) : Option (Int) :=
  (some ((and32 (v0 - (and32 (ushr32 v0 1) 1431655765)) 858993459) + (and32 (ushr32 (v0 - (and32 (ushr32 v0 1) 1431655765)) 2) 858993459))).bind fun x1 =>
  (some ((and32 (x1 + (ushr32 x1 4)) 252645135) + (ushr32 (and32 (x1 + (ushr32 x1 4)) 252645135) 8))).bind fun x2 =>
  some (and32 (x2 + (ushr32 x2 16)) 63)
noncomputable def fJ16_lowestOneBit (v0 : Int) : Option (Int) :=
  some (and32 v0 (-v0))
noncomputable def fJ2_init (G : CG) (v0 : Option Nat) (u : Sg) : Option (Sg) :=
  v0.bind fun b1 =>
  (fJ1_init G (some b1) u).bind fun u2 =>
  (pfR G.2.2.2.1 u2 6 201 (some b1) (G.2.2.2.2 6)).bind fun u3 =>
  some u3
noncomputable def fJ5_copyOf_2_b24 (G : CG) (v0 : Option Nat) (v1 : Int) (s0 : Option Nat) (u : Sg) : Option ((Option Nat × Sg) × Nat × Nat) :=
  (alen u 5 v0).bind fun x1 =>
  (zcpy G.2.2.2.1 u v0 0 s0 0 (mn32 x1 v1)).bind fun u2 =>
  some ((s0, u2), 0, 0)
noncomputable def fJ5_copyOf_2 (G : CG) (v0 : Option Nat) (v1 : Int) (v2 : Option Nat) (u : Sg) : Option ((Option Nat × Sg) × Nat × Nat) :=
  if v2 = (G.2.2.2.2 21) then
    bdU (zNewQ u v1) fun q1 =>
    fJ5_copyOf_2_b24 G v0 v1 (some q1.1) q1.2
  else
    none
noncomputable def fJ5_copyOf (G : CG) (v0 : Option Nat) (v1 : Int) (u : Sg) : Option ((Option Nat × Sg) × Nat × Nat) :=
  (ztg u 105 v0).bind fun b1 =>
  bdU (fJ5_copyOf_2 G v0 v1 (G.2.2.2.2 21) u) fun q2 =>
  some ((q2.1, q2.2), 0, 0)
noncomputable def fJ3_newLength_b21 (G : CG) (v0 : Int) (v1 : Int) (u : Sg) : Option ((Int × Sg) × Nat × Nat) :=
  none
noncomputable def fJ3_newLength (G : CG) (v0 : Int) (v1 : Int) (v2 : Int) (u : Sg) : Option ((Int × Sg) × Nat × Nat) :=
  if (w32 (v0 + (mx32 v1 v2))) ≤ 0 then
    fJ3_newLength_b21 G v0 v1 u
  else
    if 2147483639 < (w32 (v0 + (mx32 v1 v2))) then
      fJ3_newLength_b21 G v0 v1 u
    else
      some (((v0 + (mx32 v1 v2)), u), 0, 0)
noncomputable def fJ2_grow_2_b20 (G : CG) (v0 : Option Nat) (v1 : Int) (v2 : Int) (u : Sg) : Option ((Option Nat × Sg) × Nat × Nat) :=
  bdU (fJ3_newLength G v2 (v1 - v2) (shr32 v2 1) u) fun q1 =>
  (gfR q1.2 6 201 v0).bind fun x2 =>
  bdU (fJ5_copyOf G x2 q1.1 q1.2) fun q3 =>
  (pfR G.2.2.2.1 q3.2 6 201 v0 q3.1).bind fun u4 =>
  some ((q3.1, u4), 0, 0)
noncomputable def fJ2_grow_2 (G : CG) (v0 : Option Nat) (v1 : Int) (u : Sg) : Option ((Option Nat × Sg) × Nat × Nat) :=
  (gfR u 6 201 v0).bind fun x1 =>
  (alen u 5 x1).bind fun x2 =>
  if 0 < (w32 x2) then
    fJ2_grow_2_b20 G v0 v1 x2 u
  else
    (gfR u 6 201 v0).bind fun x3 =>
    if x3 = (G.2.2.2.2 6) then
      bdU (zNewQ u (mx32 10 v1)) fun q4 =>
      (pfR G.2.2.2.1 q4.2 6 201 v0 (some q4.1)).bind fun u5 =>
      some (((some q4.1), u5), 0, 0)
    else
      fJ2_grow_2_b20 G v0 v1 x2 u
noncomputable def fJ2_grow (G : CG) (v0 : Option Nat) (u : Sg) : Option ((Option Nat × Sg) × Nat × Nat) :=
  (gfI u 6 202 v0).bind fun x1 =>
  (ztg u 6 v0).bind fun b2 =>
  bdU (fJ2_grow_2 G (some b2) (x1 + 1) u) fun q3 =>
  some ((q3.1, q3.2), 0, 0)
noncomputable def fJ2_add_2_b11 (G : CG) (v0 : Option Nat) (v1 : Option Nat) (v2 : Option Nat) (v3 : Int) (u : Sg) : Option ((Sg) × Nat × Nat) :=
  (asR G.2.2.2.1 u v2 v3 v1).bind fun u1 =>
  (pfI G.2.2.2.1 u1 6 202 v0 (v3 + 1)).bind fun u2 =>
  some (u2, 0, 0)
noncomputable def fJ2_add_2 (G : CG) (v0 : Option Nat) (v1 : Option Nat) (v2 : Option Nat) (v3 : Int) (u : Sg) : Option ((Sg) × Nat × Nat) :=
  (alen u 5 v2).bind fun x1 =>
  if (w32 v3) = (w32 x1) then
    (ztg u 6 v0).bind fun b2 =>
    bdU (fJ2_grow G (some b2) u) fun q3 =>
    fJ2_add_2_b11 G v0 v1 q3.1 v3 q3.2
  else
    fJ2_add_2_b11 G v0 v1 v2 v3 u
noncomputable def fJ2_add (G : CG) (v0 : Option Nat) (v1 : Option Nat) (u : Sg) : Option ((Int × Sg) × Nat × Nat) :=
  (gfI u 6 200 v0).bind fun x1 =>
  (pfI G.2.2.2.1 u 6 200 v0 (x1 + 1)).bind fun u2 =>
  (gfR u2 6 201 v0).bind fun x3 =>
  (gfI u2 6 202 v0).bind fun x4 =>
  (ztg u2 6 v0).bind fun b5 =>
  bdU (fJ2_add_2 G (some b5) v1 x3 x4 u2) fun q6 =>
  some ((1, q6), 0, 0)
noncomputable def fJ2_size (G : CG) (v0 : Option Nat) (u : Sg) : Option (Int) :=
  (gfI u 6 202 v0).bind fun x1 =>
  some x1
noncomputable def fJ2_elementData (G : CG) (v0 : Option Nat) (v1 : Int) (u : Sg) : Option (Option Nat) :=
  (gfR u 6 201 v0).bind fun x1 =>
  (alR u 5 x1 v1).bind fun x2 =>
  some x2
noncomputable def fJ2_get (G : CG) (v0 : Option Nat) (v1 : Int) (u : Sg) : Option (Option Nat) :=
  (gfI u 6 202 v0).bind fun x1 =>
  (fJ13_checkIndex v1 x1).bind fun x2 =>
  (ztg u 6 v0).bind fun b3 =>
  (fJ2_elementData G (some b3) v1 u).bind fun x4 =>
  some x4
noncomputable def fJ2_toArray (G : CG) (v0 : Option Nat) (u : Sg) : Option ((Option Nat × Sg) × Nat × Nat) :=
  (gfR u 6 201 v0).bind fun x1 =>
  (gfI u 6 202 v0).bind fun x2 =>
  bdU (fJ5_copyOf G x1 x2 u) fun q3 =>
  some ((q3.1, q3.2), 0, 0)
noncomputable def fJ2_addAll_b56 (G : CG) (v0 : Option Nat) (v2 : Option Nat) (v3 : Int) (v4 : Option Nat) (v5 : Int) (u : Sg) : Option ((Int × Sg) × Nat × Nat) :=
  (zcpy G.2.2.2.1 u v2 0 v4 v5 v3).bind fun u1 =>
  (pfI G.2.2.2.1 u1 6 202 v0 (v5 + v3)).bind fun u2 =>
  some ((1, u2), 0, 0)
noncomputable def fJ2_addAll (G : CG) (v0 : Option Nat) (v1 : Option Nat) (u : Sg) : Option ((Int × Sg) × Nat × Nat) :=
  (ztg u 6 v1).bind fun b1 =>
  bdU (fJ2_toArray G (some b1) u) fun q2 =>
  (gfI q2.2 6 200 v0).bind fun x3 =>
  (pfI G.2.2.2.1 q2.2 6 200 v0 (x3 + 1)).bind fun u4 =>
  (alen u4 5 q2.1).bind fun x5 =>
  if (w32 x5) = 0 then
    some ((0, u4), 0, 0)
  else
    (gfR u4 6 201 v0).bind fun x6 =>
    (alen u4 5 x6).bind fun x7 =>
    (gfI u4 6 202 v0).bind fun x8 =>
    if (w32 x5) ≤ (w32 (x7 - x8)) then
      fJ2_addAll_b56 G v0 q2.1 x5 x6 x8 u4
    else
      (ztg u4 6 v0).bind fun b9 =>
      bdU (fJ2_grow_2 G (some b9) (x8 + x5) u4) fun q10 =>
      fJ2_addAll_b56 G v0 q2.1 x5 q10.1 x8 q10.2
noncomputable def fJ2_init_2 (G : CG) (v0 : Option Nat) (v1 : Option Nat) (u : Sg) : Option ((Sg) × Nat × Nat) :=
  v0.bind fun b1 =>
  (fJ1_init G (some b1) u).bind fun u2 =>
  (ztg u2 6 v1).bind fun b3 =>
  bdU (fJ2_toArray G (some b3) u2) fun q4 =>
  (alen q4.2 5 q4.1).bind fun x5 =>
  (pfI G.2.2.2.1 q4.2 6 202 (some b1) x5).bind fun u6 =>
  if (w32 x5) = 0 then
    (pfR G.2.2.2.1 u6 6 201 (some b1) (G.2.2.2.2 7)).bind fun u7 =>
    some (u7, 0, 0)
  else
    (ztg u6 6 v1).bind fun b8 =>
    if (G.2.2.2.2 22) = (G.2.2.2.2 22) then
      (pfR G.2.2.2.1 u6 6 201 (some b1) q4.1).bind fun u12 =>
      some (u12, 0, 0)
    else
      (gfI u6 6 202 (some b1)).bind fun x9 =>
      bdU (fJ5_copyOf_2 G q4.1 x9 (G.2.2.2.2 21) u6) fun q10 =>
      (pfR G.2.2.2.1 q10.2 6 201 (some b1) q10.1).bind fun u11 =>
      some (u11, 0, 0)
noncomputable def fJ2_set (G : CG) (v0 : Option Nat) (v1 : Int) (v2 : Option Nat) (u : Sg) : Option (Option Nat × Sg) :=
  (gfI u 6 202 v0).bind fun x1 =>
  (fJ13_checkIndex v1 x1).bind fun x2 =>
  (ztg u 6 v0).bind fun b3 =>
  (fJ2_elementData G (some b3) v1 u).bind fun x4 =>
  (gfR u 6 201 v0).bind fun x5 =>
  (asR G.2.2.2.1 u x5 v1 v2).bind fun u6 =>
  some (x4, u6)
noncomputable def f1_init (G : CG) (v0 : Option Nat) (u : Sg) : Option ((Sg) × Nat × Nat) :=
  v0.bind fun b1 =>
  bdU (zNewA u 1 8) fun q2 =>
  (pfR G.2.2.2.1 q2.2 2 40 (some b1) (some q2.1)).bind fun u3 =>
  bdU (zNewA u3 3 12) fun q4 =>
  (pfR G.2.2.2.1 q4.2 2 41 (some b1) (some q4.1)).bind fun u5 =>
  some (u5, 0, 0)
noncomputable def f4_init (G : CG) (v0 : Option Nat) (v1 : Int) (u : Sg) : Option ((Sg) × Nat × Nat) :=
  v0.bind fun b1 =>
  bdU (zNewA u 1 v1) fun q2 =>
  (pfR G.2.2.2.1 q2.2 5 160 (some b1) (some q2.1)).bind fun u3 =>
  some (u3, 0, 0)
noncomputable def f3_init_l45 (G : CG) (v0 : Option Nat) : Nat → Int → Sg → Option ((Sg) × Nat × Nat)
  | 0, _, _ => none
  | n + 1, v2, u =>
    if 8 ≤ (w32 v2) then
      some (u, 0, 0)
    else
      (gfR u 4 120 v0).bind fun x1 =>
      bdU (zNew u 5 3) fun q2 =>
      bdU (f4_init G (some q2.1) 1220 q2.2) fun q3 =>
      (ztg q3 6 x1).bind fun b4 =>
      bdU (fJ2_add G (some b4) (some q2.1) q3) fun q5 =>
      f3_init_l45 G v0 n (v2 + 1) q5.2
noncomputable def f3_init (G : CG) (v0 : Option Nat) (v1 : Option Nat) (u : Sg) : Option ((Sg) × Nat × Nat) :=
  (pfR G.2.2.2.1 u 4 129 v0 v1).bind fun u1 =>
  v0.bind fun b2 =>
  bdU (zNew u1 6 3) fun q3 =>
  (fJ2_init G (some q3.1) q3.2).bind fun u4 =>
  (pfR G.2.2.2.1 u4 4 120 (some b2) (some q3.1)).bind fun u5 =>
  bdU (zNewA u5 1 16) fun q6 =>
  (pfR G.2.2.2.1 q6.2 4 123 (some b2) (some q6.1)).bind fun u7 =>
  bdU (zNewA u7 3 2) fun q8 =>
  (pfR G.2.2.2.1 q8.2 4 124 (some b2) (some q8.1)).bind fun u9 =>
  bdU (zNewA u9 1 8) fun q10 =>
  (pfR G.2.2.2.1 q10.2 4 126 (some b2) (some q10.1)).bind fun u11 =>
  bdU (f3_init_l45 G (some b2) NN 0 u11) fun q12 =>
  some (q12, 0, 0)
noncomputable def f2_init (G : CG) (v0 : Option Nat) (v1 : Option Nat) (u : Sg) : Option ((Sg) × Nat × Nat) :=
  (pfR G.2.2.2.1 u 3 86 v0 v1).bind fun u1 =>
  v0.bind fun b2 =>
  bdU (zNewA u1 1 8) fun q3 =>
  (pfR G.2.2.2.1 q3.2 3 81 (some b2) (some q3.1)).bind fun u4 =>
  bdU (zNewA u4 1 8) fun q5 =>
  (pfR G.2.2.2.1 q5.2 3 83 (some b2) (some q5.1)).bind fun u6 =>
  bdU (zNewA u6 1 2) fun q7 =>
  (pfR G.2.2.2.1 q7.2 3 84 (some b2) (some q7.1)).bind fun u8 =>
  bdU (zNewA u8 2 2000) fun q9 =>
  (pfR G.2.2.2.1 q9.2 3 85 (some b2) (some q9.1)).bind fun u10 =>
  some (u10, 0, 0)
noncomputable def f0_init (G : CG) (v0 : Option Nat) (u : Sg) : Option ((Sg) × Nat × Nat) :=
  v0.bind fun b1 =>
  bdU (zNewA u 4 29) fun q2 =>
  (asI G.2.2.2.1 q2.2 4 (some q2.1) 0 1717658484).bind fun u3 =>
  (asI G.2.2.2.1 u3 4 (some q2.1) 1 7955827).bind fun u4 =>
  (asI G.2.2.2.1 u4 4 (some q2.1) 2 7302757).bind fun u5 =>
  (asI G.2.2.2.1 u5 4 (some q2.1) 3 1718775661).bind fun u6 =>
  (asI G.2.2.2.1 u6 4 (some q2.1) 4 29807).bind fun u7 =>
  (asI G.2.2.2.1 u7 4 (some q2.1) 5 1835360622).bind fun u8 =>
  (asI G.2.2.2.1 u8 4 (some q2.1) 6 427071792498).bind fun u9 =>
  (asI G.2.2.2.1 u9 4 (some q2.1) 7 465557354085).bind fun u10 =>
  (asI G.2.2.2.1 u10 4 (some q2.1) 8 1650549611).bind fun u11 =>
  (asI G.2.2.2.1 u11 4 (some q2.1) 9 439855772532).bind fun u12 =>
  (asI G.2.2.2.1 u12 4 (some q2.1) 10 495672455781).bind fun u13 =>
  (asI G.2.2.2.1 u13 4 (some q2.1) 11 1836020596).bind fun u14 =>
  (asI G.2.2.2.1 u14 4 (some q2.1) 12 435778055796).bind fun u15 =>
  (asI G.2.2.2.1 u15 4 (some q2.1) 13 2036687218).bind fun u16 =>
  (asI G.2.2.2.1 u16 4 (some q2.1) 14 6384748).bind fun u17 =>
  (asI G.2.2.2.1 u17 4 (some q2.1) 15 1918989413).bind fun u18 =>
  (asI G.2.2.2.1 u18 4 (some q2.1) 16 499984983411).bind fun u19 =>
  (asI G.2.2.2.1 u19 4 (some q2.1) 17 1886156147).bind fun u20 =>
  (asI G.2.2.2.1 u20 4 (some q2.1) 18 491496238692).bind fun u21 =>
  (asI G.2.2.2.1 u21 4 (some q2.1) 19 465557353332).bind fun u22 =>
  (asI G.2.2.2.1 u22 4 (some q2.1) 20 26982).bind fun u23 =>
  (asI G.2.2.2.1 u23 4 (some q2.1) 21 28530).bind fun u24 =>
  (asI G.2.2.2.1 u24 4 (some q2.1) 22 6385252).bind fun u25 =>
  (asI G.2.2.2.1 u25 4 (some q2.1) 23 7237492).bind fun u26 =>
  (asI G.2.2.2.1 u26 4 (some q2.1) 24 126943972911973).bind fun u27 =>
  (asI G.2.2.2.1 u27 4 (some q2.1) 25 29676314707714404).bind fun u28 =>
  (asI G.2.2.2.1 u28 4 (some q2.1) 26 107118487239027).bind fun u29 =>
  (asI G.2.2.2.1 u29 4 (some q2.1) 27 474148660594).bind fun u30 =>
  (asI G.2.2.2.1 u30 4 (some q2.1) 28 7168377).bind fun u31 =>
  (pfR G.2.2.2.1 u31 1 0 (some b1) (some q2.1)).bind fun u32 =>
  bdU (zNewA u32 2 4000) fun q33 =>
  (pfR G.2.2.2.1 q33.2 1 1 (some b1) (some q33.1)).bind fun u34 =>
  (pfI G.2.2.2.1 u34 1 3 (some b1) (-1)).bind fun u35 =>
  bdU (zNew u35 6 3) fun q36 =>
  (fJ2_init G (some q36.1) q36.2).bind fun u37 =>
  (pfR G.2.2.2.1 u37 1 5 (some b1) (some q36.1)).bind fun u38 =>
  bdU (zNew u38 6 3) fun q39 =>
  (fJ2_init G (some q39.1) q39.2).bind fun u40 =>
  (pfR G.2.2.2.1 u40 1 6 (some b1) (some q39.1)).bind fun u41 =>
  bdU (zNew u41 6 3) fun q42 =>
  (fJ2_init G (some q42.1) q42.2).bind fun u43 =>
  (pfR G.2.2.2.1 u43 1 7 (some b1) (some q42.1)).bind fun u44 =>
  bdU (zNew u44 6 3) fun q45 =>
  (fJ2_init G (some q45.1) q45.2).bind fun u46 =>
  (pfR G.2.2.2.1 u46 1 8 (some b1) (some q45.1)).bind fun u47 =>
  bdU (zNewA u47 1 6) fun q48 =>
  (pfR G.2.2.2.1 q48.2 1 9 (some b1) (some q48.1)).bind fun u49 =>
  bdU (zNewA u49 1 6) fun q50 =>
  (pfR G.2.2.2.1 q50.2 1 10 (some b1) (some q50.1)).bind fun u51 =>
  bdU (zNewA u51 1 6) fun q52 =>
  (pfR G.2.2.2.1 q52.2 1 11 (some b1) (some q52.1)).bind fun u53 =>
  bdU (zNew u53 2 2) fun q54 =>
  bdU (f1_init G (some q54.1) q54.2) fun q55 =>
  (pfR G.2.2.2.1 q55 1 13 (some b1) (some q54.1)).bind fun u56 =>
  bdU (zNew u56 3 7) fun q57 =>
  bdU (f2_init G (some q57.1) (some b1) q57.2) fun q58 =>
  (pfR G.2.2.2.1 q58 1 14 (some b1) (some q57.1)).bind fun u59 =>
  bdU (zNew u59 4 10) fun q60 =>
  bdU (f3_init G (some q60.1) (some b1) q60.2) fun q61 =>
  (pfR G.2.2.2.1 q61 1 15 (some b1) (some q60.1)).bind fun u62 =>
  bdU (zNewA u62 1 40) fun q63 =>
  (pfR G.2.2.2.1 q63.2 1 16 (some b1) (some q63.1)).bind fun u64 =>
  bdU (zNewA u64 1 40) fun q65 =>
  (pfR G.2.2.2.1 q65.2 1 17 (some b1) (some q65.1)).bind fun u66 =>
  bdU (zNewA u66 1 400) fun q67 =>
  (pfR G.2.2.2.1 q67.2 1 18 (some b1) (some q67.1)).bind fun u68 =>
  bdU (zNewA u68 1 400) fun q69 =>
  (pfR G.2.2.2.1 q69.2 1 19 (some b1) (some q69.1)).bind fun u70 =>
  bdU (zNewA u70 1 400) fun q71 =>
  (pfR G.2.2.2.1 q71.2 1 20 (some b1) (some q71.1)).bind fun u72 =>
  bdU (zNewA u72 1 400) fun q73 =>
  (pfR G.2.2.2.1 q73.2 1 21 (some b1) (some q73.1)).bind fun u74 =>
  bdU (zNewA u74 4 100) fun q75 =>
  (pfR G.2.2.2.1 q75.2 1 24 (some b1) (some q75.1)).bind fun u76 =>
  bdU (zNewA u76 1 401) fun q77 =>
  (pfR G.2.2.2.1 q77.2 1 25 (some b1) (some q77.1)).bind fun u78 =>
  bdU (zNewA u78 1 5) fun q79 =>
  (pfR G.2.2.2.1 q79.2 1 27 (some b1) (some q79.1)).bind fun u80 =>
  bdU (zNewA u80 4 1601) fun q81 =>
  (pfR G.2.2.2.1 q81.2 1 28 (some b1) (some q81.1)).bind fun u82 =>
  bdU (zNewA u82 4 1601) fun q83 =>
  (pfR G.2.2.2.1 q83.2 1 29 (some b1) (some q83.1)).bind fun u84 =>
  bdU (zNewA u84 4 1601) fun q85 =>
  (pfR G.2.2.2.1 q85.2 1 30 (some b1) (some q85.1)).bind fun u86 =>
  some (u86, 0, 0)
noncomputable def f0_type_l44 (G : CG) (v0 : Option Nat) (v1 : Int) : Nat → Int → Sg → Option (Sg)
  | 0, _, _ => none
  | n + 1, v4, u =>
    if (w32 v4) < 0 then
      some u
    else
      (gfR u 1 1 v0).bind fun x1 =>
      (gfI u 1 2 v0).bind fun x2 =>
      (pfI G.2.2.2.1 u 1 2 v0 (x2 + 1)).bind fun u3 =>
      (asI G.2.2.2.1 u3 2 x1 x2 (w8 (w8 (shr64 v1 (8 * v4))))).bind fun u4 =>
      f0_type_l44 G v0 v1 n (v4 + (-1)) u4
noncomputable def f0_type (G : CG) (v0 : Option Nat) (v1 : Int) (v3 : Int) (u : Sg) : Option (Int × Sg) :=
  if (w32 v3) < 0 then
    some ((-2), u)
  else
    if (w32 v3) ≤ 8 then
      if (w32 v3) = 0 then
        (pfI G.2.2.2.1 u 1 2 v0 0).bind fun u5 =>
        some (0, u5)
      else
        (gfI u 1 2 v0).bind fun x1 =>
        if (w32 (x1 + v3)) ≤ 4000 then
          (f0_type_l44 G v0 v1 NN (v3 - 1) u).bind fun q2 =>
          (gfI q2 1 2 v0).bind fun x3 =>
          some (x3, q2)
        else
          some ((-4), u)
    else
      some ((-2), u)
noncomputable def f0_place (G : CG) (v0 : Option Nat) (u : Sg) : Option (Int) :=
  (gfI u 1 3 v0).bind fun x1 =>
  some x1
noncomputable def f0_failed (G : CG) (v0 : Option Nat) (v1 : Option Nat) (u : Sg) : Option (Int × Sg) :=
  (gfI u 9 327 v1).bind fun x1 =>
  (pfI G.2.2.2.1 u 1 3 v0 x1).bind fun u2 =>
  (gfI u2 9 326 v1).bind fun x3 =>
  some (((-10) - x3), u2)
noncomputable def f8_init (G : CG) (v0 : Option Nat) (v1 : Int) (v2 : Int) (u : Sg) : Option (Sg) :=
  v0.bind fun b1 =>
  (fltI G u b1).bind fun u2 =>
  (pfI G.2.2.2.1 u2 9 326 (some b1) v1).bind fun u3 =>
  (pfI G.2.2.2.1 u3 9 327 (some b1) v2).bind fun u4 =>
  some u4
noncomputable def f11_isTrue (G : CG)  (rc : Option Nat → Option Nat → Sg → Option Int) (v0 : Option Nat) (v1 : Option Nat) (u : Sg) : Option (Int) :=
  (gfR u 12 440 v0).bind fun x1 =>
  (rc x1 v1 u).bind fun x2 =>
  if (w32 x2) = 0 then
    some 1
  else
    some 0
noncomputable def f12_isTrue (G : CG) (v0 : Option Nat) (v1 : Option Nat) (u : Sg) : Option (Int) :=
  (gfR u 2 41 v1).bind fun x1 =>
  (gfI u 13 480 v0).bind fun x2 =>
  (alI u 3 x1 x2).bind fun x3 =>
  if w32 x3 = 0 ∨ w32 x3 = 1 then some x3 else none
noncomputable def f13_isTrue_b21 (G : CG) (v0 : Option Nat) (s0 : Int) (u : Sg) : Option (Int) :=
  (gfI u 14 522 v0).bind fun x1 =>
  if (w32 s0) = (w32 x1) then
    some 0
  else
    some 1
noncomputable def f13_isTrue (G : CG) (v0 : Option Nat) (v1 : Option Nat) (u : Sg) : Option (Int) :=
  (gfR u 2 40 v1).bind fun x1 =>
  (gfI u 14 520 v0).bind fun x2 =>
  (alI u 1 x1 x2).bind fun x3 =>
  (gfI u 14 521 v0).bind fun x4 =>
  if (w32 x3) = (w32 x4) then
    f13_isTrue_b21 G v0 1 u
  else
    f13_isTrue_b21 G v0 0 u
noncomputable def f22_holds (G : CG) (v0 : Option Nat) (v1 : Int) (v2 : Int) (u : Sg) : Option (Int) :=
  if (w32 v1) = (w32 v2) then
    some 1
  else
    some 0
noncomputable def f23_holds (G : CG) (v0 : Option Nat) (v1 : Int) (v2 : Int) (u : Sg) : Option (Int) :=
  if (w32 v2) ≤ (w32 v1) then
    some 0
  else
    some 1
noncomputable def f24_holds (G : CG) (v0 : Option Nat) (v1 : Int) (v2 : Int) (u : Sg) : Option (Int) :=
  if (w32 v1) ≤ (w32 v2) then
    some 0
  else
    some 1
noncomputable def f25_holds (G : CG) (v0 : Option Nat) (v1 : Int) (v2 : Int) (u : Sg) : Option (Int) :=
  if (w32 v2) < (w32 v1) then
    some 0
  else
    some 1
noncomputable def f26_holds (G : CG) (v0 : Option Nat) (v1 : Int) (v2 : Int) (u : Sg) : Option (Int) :=
  if (w32 v1) < (w32 v2) then
    some 0
  else
    some 1
noncomputable def f27_holds (G : CG) (v0 : Option Nat) (v1 : Int) (v2 : Int) (u : Sg) : Option (Int) :=
  if (w32 v1) = (w32 v2) then
    some 0
  else
    some 1
noncomputable def kv_holds (G : CG) (r : Option Nat) (y0 : Int) (y1 : Int) (u : Sg) : Option Int := r.bind fun b =>
    if zT u b = 23 then some (hvC .ne y0 y1) else
    if zT u b = 24 then some (hvC .ge y0 y1) else
    if zT u b = 25 then some (hvC .le y0 y1) else
    if zT u b = 26 then some (hvC .gt y0 y1) else
    if zT u b = 27 then some (hvC .lt y0 y1) else
    if zT u b = 28 then some (hvC .eq y0 y1) else
    none
noncomputable def f14_isTrue (G : CG) (v0 : Option Nat) (v1 : Option Nat) (u : Sg) : Option (Int) :=
  (gfR u 15 561 v0).bind fun x1 =>
  (gfR u 2 40 v1).bind fun x2 =>
  (gfI u 15 560 v0).bind fun x3 =>
  (alI u 1 x2 x3).bind fun x4 =>
  (gfI u 15 562 v0).bind fun x5 =>
  (kv_holds G x1 x4 x5 u).bind fun x6 =>
  if w32 x6 = 0 ∨ w32 x6 = 1 then some x6 else none
noncomputable def f15_isTrue_l2 (G : CG) (rc : Option Nat → Option Nat → Sg → Option Int) (v0 : Option Nat) (v1 : Option Nat) (u : Sg) : Nat → Int → Option ((Unit) ⊕ (Unit))
  | 0, _ => none
  | n + 1, v2 =>
    (gfR u 16 601 v0).bind fun x1 =>
    (ztg u 6 x1).bind fun b2 =>
    (fJ2_size G (some b2) u).bind fun x3 =>
    if (w32 x3) ≤ (w32 v2) then
      some (.inr ())
    else
      (gfR u 16 601 v0).bind fun x4 =>
      (ztg u 6 x4).bind fun b5 =>
      (fJ2_get G (some b5) v2 u).bind fun x6 =>
      (zcast u [12, 13, 14, 15, 16] x6).bind fun y7 =>
      (rc x6 v1 u).bind fun x8 =>
      (gfI u 16 600 v0).bind fun x9 =>
      if (w32 x8) = (w32 x9) then
        some (.inl ())
      else
        f15_isTrue_l2 G rc v0 v1 u n (v2 + 1)
noncomputable def f15_isTrue (G : CG)  (rc : Option Nat → Option Nat → Sg → Option Int) (v0 : Option Nat) (v1 : Option Nat) (u : Sg) : Option (Int) :=
  (f15_isTrue_l2 G rc v0 v1 u NN 0).bind
    (Sum.elim
      (fun q1 =>
        (gfI u 16 600 v0).bind fun x2 =>
        if w32 x2 = 0 ∨ w32 x2 = 1 then some x2 else none)
      (fun q4 =>
        (gfI u 16 600 v0).bind fun x5 =>
        if (w32 x5) = 0 then
          some 1
        else
          some 0))
noncomputable def kv_isTrue (G : CG) : Nat → Option Nat → Option Nat → Sg → Option Int
  | 0, _, _, _ => none
  | d + 1, r, y0, u => r.bind fun b =>
    if zT u b = 12 then f11_isTrue G (kv_isTrue G d) (some b) y0 u else
    if zT u b = 13 then f12_isTrue G (some b) y0 u else
    if zT u b = 14 then f13_isTrue G (some b) y0 u else
    if zT u b = 15 then f14_isTrue G (some b) y0 u else
    if zT u b = 16 then f15_isTrue G (kv_isTrue G d) (some b) y0 u else
    none
noncomputable def f6_mean_l2 (G : CG) (v0 : Option Nat) (v1 : Option Nat) : Nat → Int → Sg → Option (Sg)
  | 0, _, _ => none
  | n + 1, v2, u =>
    (gfR u 7 242 v0).bind fun x1 =>
    (ztg u 6 x1).bind fun b2 =>
    (fJ2_size G (some b2) u).bind fun x3 =>
    if (w32 x3) ≤ (w32 v2) then
      some u
    else
      (gfR u 2 41 v1).bind fun x4 =>
      (gfR u 7 242 v0).bind fun x5 =>
      (ztg u 6 x5).bind fun b6 =>
      (fJ2_get G (some b6) v2 u).bind fun x7 =>
      (zcast u [12, 13, 14, 15, 16] x7).bind fun y8 =>
      (kv_isTrue G DD x7 v1 u).bind fun x9 =>
      (asI G.2.2.2.1 u 3 x4 v2 (nz x9)).bind fun u10 =>
      f6_mean_l2 G v0 v1 n (v2 + 1) u10
noncomputable def f6_mean (G : CG) (v0 : Option Nat) (v1 : Option Nat) (u : Sg) : Option (Sg) :=
  (f6_mean_l2 G v0 v1 NN 0 u).bind fun q1 =>
  some q1
noncomputable def f6_way_l15 (G : CG) (v0 : Option Nat) (v2 : Option Nat) : Nat → Int → Int → Sg → Option (Sg)
  | 0, _, _, _ => none
  | n + 1, v3, v4, u =>
    if (w32 v4) < 0 then
      some u
    else
      (gfR u 7 250 v0).bind fun x1 =>
      (ztg u 6 x1).bind fun b2 =>
      (fJ2_get G (some b2) v4 u).bind fun x3 =>
      (zcast u [5] x3).bind fun y4 =>
      (gfR u 2 40 v2).bind fun x5 =>
      (gfR u 5 160 x3).bind fun x6 =>
      (gfI u 5 161 x3).bind fun x7 =>
      if w32 x7 = 0 then none else
      (alI u 1 x6 (rem32 v3 x7)).bind fun x9 =>
      (asI G.2.2.2.1 u 1 x5 v4 x9).bind fun u10 =>
      (gfI u10 5 161 x3).bind fun x11 =>
      if w32 x11 = 0 then none else
      f6_way_l15 G v0 v2 n (div32 v3 x11) (v4 + (-1)) u10
noncomputable def f6_way (G : CG) (v0 : Option Nat) (v1 : Int) (v2 : Option Nat) (u : Sg) : Option (Sg) :=
  (gfR u 7 240 v0).bind fun x1 =>
  (ztg u 6 x1).bind fun b2 =>
  (fJ2_size G (some b2) u).bind fun x3 =>
  (f6_way_l15 G v0 v2 NN v1 (x3 - 1) u).bind fun q4 =>
  some q4
noncomputable def f6_answerAll_b139 (G : CG) (kh : Int → Int → Sg → Option ((Sg) × Nat × Nat)) (v0 : Option Nat) (v1 : Option Nat) (v2 : Int) (v3 : Int) (v4 : Int) (s0 : Option Nat) (s1 : Int) (s2 : Int) (u : Sg) : Option ((Sg) × Nat × Nat) :=
  (asI G.2.2.2.1 u 2 s0 s1 (w8 (w8 s2))).bind fun u1 =>
  (gfR u1 7 253 v0).bind fun x2 =>
  (asI G.2.2.2.1 u1 2 x2 v2 (w8 (w8 (v4 + 1)))).bind fun u3 =>
  kh v3 (v4 + 1) u3
noncomputable def f6_answerAll_b118 (G : CG) (kh : Int → Int → Sg → Option ((Sg) × Nat × Nat)) (v0 : Option Nat) (v1 : Option Nat) (v2 : Int) (v4 : Int) (v5 : Option Nat) (s0 : Int) (s1 : Int) (u : Sg) : Option ((Sg) × Nat × Nat) :=
  (gfR u 7 252 v0).bind fun x1 =>
  (gfI u 17 640 v5).bind fun x2 =>
  if (w32 x2) = 1 then
    f6_answerAll_b139 G (kh) v0 v1 v2 (or32 s0 s1) v4 x1 v2 0 u
  else
    f6_answerAll_b139 G (kh) v0 v1 v2 (or32 s0 s1) v4 x1 v2 1 u
noncomputable def f6_answerAll_b89 (G : CG) (kh : Int → Int → Sg → Option ((Sg) × Nat × Nat)) (v0 : Option Nat) (v1 : Option Nat) (v2 : Int) (v3 : Int) (v4 : Int) (v5 : Option Nat) (u : Sg) : Option ((Sg) × Nat × Nat) :=
  (gfR u 17 641 v5).bind fun x1 =>
  (kv_isTrue G DD x1 v1 u).bind fun x2 =>
  if (w32 x2) = 0 then
    kh v3 (v4 + 1) u
  else
    (gfI u 17 640 v5).bind fun x3 =>
    if (w32 x3) = 0 then
      f6_answerAll_b118 G (kh) v0 v1 v2 v4 v5 v3 1 u
    else
      f6_answerAll_b118 G (kh) v0 v1 v2 v4 v5 v3 0 u
noncomputable def f6_answerAll_l46 (G : CG) (v0 : Option Nat) (v1 : Option Nat) (v2 : Int) : Nat → Int → Int → Sg → Option ((Sg) × Nat × Nat)
  | 0, _, _, _ => none
  | n + 1, v3, v4, u =>
    (gfR u 7 243 v0).bind fun x1 =>
    (ztg u 6 x1).bind fun b2 =>
    (fJ2_size G (some b2) u).bind fun x3 =>
    if (w32 x3) ≤ (w32 v4) then
      some (u, 0, 0)
    else
      (gfR u 7 243 v0).bind fun x4 =>
      (ztg u 6 x4).bind fun b5 =>
      (fJ2_get G (some b5) v4 u).bind fun x6 =>
      (zcast u [17] x6).bind fun y7 =>
      (gfI u 17 640 x6).bind fun x8 =>
      if (w32 x8) = 2 then
        if (w32 v3) = 0 then
          f6_answerAll_l46 G v0 v1 v2 n v3 (v4 + 1) u
        else
          f6_answerAll_b89 G (f6_answerAll_l46 G v0 v1 v2 n) v0 v1 v2 v3 v4 x6 u
      else
        f6_answerAll_b89 G (f6_answerAll_l46 G v0 v1 v2 n) v0 v1 v2 v3 v4 x6 u
noncomputable def f6_answerAll_l22 (G : CG) (v0 : Option Nat) (v1 : Option Nat) : Nat → Int → Sg → Option ((Sg) × Nat × Nat)
  | 0, _, _ => none
  | n + 1, v2, u =>
    (gfI u 7 251 v0).bind fun x1 =>
    if (w32 x1) ≤ (w32 v2) then
      some (u, 0, 0)
    else
      (ztg u 7 v0).bind fun b2 =>
      (f6_way G (some b2) v2 v1 u).bind fun u3 =>
      (ztg u3 7 v0).bind fun b4 =>
      (f6_mean G (some b4) v1 u3).bind fun u5 =>
      bdU (f6_answerAll_l46 G v0 v1 v2 NN 0 0 u5) fun q6 =>
      f6_answerAll_l22 G v0 v1 n (v2 + 1) q6
noncomputable def f6_answerAll (G : CG) (v0 : Option Nat) (v1 : Option Nat) (u : Sg) : Option ((Sg) × Nat × Nat) :=
  (gfI u 7 251 v0).bind fun x1 =>
  bdU (zNewA u 2 x1) fun q2 =>
  (pfR G.2.2.2.1 q2.2 7 252 v0 (some q2.1)).bind fun u3 =>
  (gfI u3 7 251 v0).bind fun x4 =>
  bdU (zNewA u3 2 x4) fun q5 =>
  (pfR G.2.2.2.1 q5.2 7 253 v0 (some q5.1)).bind fun u6 =>
  bdU (f6_answerAll_l22 G v0 v1 NN 0 u6) fun q7 =>
  some (q7, 0, 0)
noncomputable def f6_countNodes_l10 (G : CG) (v0 : Option Nat) : Nat → Int → Sg → Option (Sg)
  | 0, _, _ => none
  | n + 1, v1, u =>
    (gfR u 7 243 v0).bind fun x1 =>
    (ztg u 6 x1).bind fun b2 =>
    (fJ2_size G (some b2) u).bind fun x3 =>
    if (w32 x3) ≤ (w32 v1) then
      some u
    else
      (gfI u 7 249 v0).bind fun x4 =>
      (gfR u 7 243 v0).bind fun x5 =>
      (ztg u 6 x5).bind fun b6 =>
      (fJ2_get G (some b6) v1 u).bind fun x7 =>
      (zcast u [17] x7).bind fun y8 =>
      (gfI u 17 642 x7).bind fun x9 =>
      (pfI G.2.2.2.1 u 7 249 v0 (x4 + x9)).bind fun u10 =>
      f6_countNodes_l10 G v0 n (v1 + 1) u10
noncomputable def f6_countNodes (G : CG) (v0 : Option Nat) (u : Sg) : Option (Int × Sg) :=
  (gfI u 7 248 v0).bind fun x1 =>
  (pfI G.2.2.2.1 u 7 249 v0 x1).bind fun u2 =>
  (f6_countNodes_l10 G v0 NN 0 u2).bind fun q3 =>
  (gfI q3 7 249 v0).bind fun x4 =>
  some (x4, q3)
noncomputable def f4_begin_l49 (G : CG) (v0 : Option Nat) (v1 : Option Nat) : Nat → Int → Sg → Option (Sg)
  | 0, _, _ => none
  | n + 1, v2, u =>
    (gfI u 10 365 v1).bind fun x1 =>
    if (w32 x1) < (w32 v2) then
      some u
    else
      (gfR u 5 160 v0).bind fun x2 =>
      (gfI u 5 161 v0).bind fun x3 =>
      (pfI G.2.2.2.1 u 5 161 v0 (x3 + 1)).bind fun u4 =>
      (asI G.2.2.2.1 u4 1 x2 x3 v2).bind fun u5 =>
      f4_begin_l49 G v0 v1 n (v2 + 1) u5
noncomputable def f4_begin (G : CG) (v0 : Option Nat) (v1 : Option Nat) (u : Sg) : Option (Sg) :=
  (pfI G.2.2.2.1 u 5 161 v0 0).bind fun u1 =>
  (gfI u1 10 365 v1).bind fun x2 =>
  (pfI G.2.2.2.1 u1 5 162 v0 x2).bind fun u3 =>
  (gfI u3 10 361 v1).bind fun x4 =>
  if (w32 x4) = 2 then
    (gfR u3 5 160 v0).bind fun x7 =>
    (gfI u3 5 161 v0).bind fun x8 =>
    (pfI G.2.2.2.1 u3 5 161 v0 (x8 + 1)).bind fun u9 =>
    (gfI u9 10 364 v1).bind fun x10 =>
    (asI G.2.2.2.1 u9 1 x7 x8 x10).bind fun u11 =>
    some u11
  else
    (gfI u3 10 364 v1).bind fun x5 =>
    (f4_begin_l49 G v0 v1 NN x5 u3).bind fun q6 =>
    some q6
noncomputable def f4_cutOut_l30 (G : CG) (v0 : Option Nat) (v1 : Option Nat) : Nat → Int → Sg → Option (Sg)
  | 0, _, _ => none
  | n + 1, v2, u =>
    (gfI u 5 161 v0).bind fun x1 =>
    if (w32 x1) ≤ (w32 v2) then
      some u
    else
      (gfR u 5 160 v1).bind fun x2 =>
      (gfR u 5 160 v0).bind fun x3 =>
      (alI u 1 x3 v2).bind fun x4 =>
      (asI G.2.2.2.1 u 1 x2 v2 x4).bind fun u5 =>
      f4_cutOut_l30 G v0 v1 n (v2 + 1) u5
noncomputable def f4_cutOut (G : CG) (v0 : Option Nat) (u : Sg) : Option ((Option Nat × Sg) × Nat × Nat) :=
  bdU (zNew u 5 3) fun q1 =>
  (gfI q1.2 5 161 v0).bind fun x2 =>
  bdU (f4_init G (some q1.1) x2 q1.2) fun q3 =>
  (gfI q3 5 161 v0).bind fun x4 =>
  (pfI G.2.2.2.1 q3 5 161 (some q1.1) x4).bind fun u5 =>
  (gfI u5 5 162 v0).bind fun x6 =>
  (pfI G.2.2.2.1 u5 5 162 (some q1.1) x6).bind fun u7 =>
  (f4_cutOut_l30 G v0 (some q1.1) NN 0 u7).bind fun q8 =>
  some (((some q1.1), q8), 0, 0)
noncomputable def f11_part (G : CG)  (rc : Option Nat → Int → Option Nat → Sg → Option Sg) (v0 : Option Nat) (v1 : Int) (v2 : Option Nat) (u : Sg) : Option (Sg) :=
  (gfR u 12 440 v0).bind fun x1 =>
  (rc x1 v1 v2 u).bind fun u2 =>
  some u2
noncomputable def f10_part (G : CG) (v0 : Option Nat) (v1 : Int) (v2 : Option Nat) (u : Sg) : Option (Sg) :=
  some u
noncomputable def f4_add_l24 (G : CG) (v0 : Option Nat) (v1 : Int) (u : Sg) : Nat → Int → Option (Int)
  | 0, _ => none
  | n + 1, v2 =>
    (gfR u 5 160 v0).bind fun x1 =>
    (alI u 1 x1 (v2 - 1)).bind fun x2 =>
    if (w32 x2) ≤ (w32 v1) then
      some v2
    else
      f4_add_l24 G v0 v1 u n (v2 + (-1))
noncomputable def f4_add_l60 (G : CG) (v0 : Option Nat) (v1 : Int) (v2 : Int) : Nat → Int → Sg → Option (Sg)
  | 0, _, _ => none
  | n + 1, v3, u =>
    if (w32 v3) ≤ (w32 v2) then
      some u
    else
      (gfR u 5 160 v0).bind fun x1 =>
      (gfR u 5 160 v0).bind fun x2 =>
      (alI u 1 x2 (v3 - 1)).bind fun x3 =>
      (asI G.2.2.2.1 u 1 x1 v3 x3).bind fun u4 =>
      f4_add_l60 G v0 v1 v2 n (v3 + (-1)) u4
noncomputable def f4_add (G : CG) (v0 : Option Nat) (v1 : Int) (u : Sg) : Option (Sg) :=
  (gfR u 5 160 v0).bind fun x1 =>
  (alI u 1 x1 0).bind fun x2 =>
  if (w32 v1) ≤ (w32 x2) then
    some u
  else
    (gfI u 5 162 v0).bind fun x3 =>
    if (w32 v1) ≤ (w32 x3) then
      (gfI u 5 161 v0).bind fun x4 =>
      (f4_add_l24 G v0 v1 u NN x4).bind fun q5 =>
      (gfR u 5 160 v0).bind fun x6 =>
      (alI u 1 x6 (q5 - 1)).bind fun x7 =>
      if (w32 x7) = (w32 v1) then
        some u
      else
        (gfI u 5 161 v0).bind fun x8 =>
        (f4_add_l60 G v0 v1 q5 NN x8 u).bind fun q9 =>
        (gfR q9 5 160 v0).bind fun x10 =>
        (asI G.2.2.2.1 q9 1 x10 q5 v1).bind fun u11 =>
        (gfI u11 5 161 v0).bind fun x12 =>
        (pfI G.2.2.2.1 u11 5 161 v0 (x12 + 1)).bind fun u13 =>
        some u13
    else
      some u
noncomputable def f14_part_b37 (G : CG) (v0 : Option Nat) (v2 : Option Nat) (u : Sg) : Option (Sg) :=
  (gfR u 15 561 v0).bind fun x1 =>
  if x1 = (G.2.2.2.2 1) then
    some u
  else
    (gfR u 15 561 v0).bind fun x2 =>
    if x2 = (G.2.2.2.2 4) then
      some u
    else
      (gfI u 15 562 v0).bind fun x3 =>
      (ztg u 5 v2).bind fun b4 =>
      (f4_add G (some b4) (x3 + 1) u).bind fun u5 =>
      some u5
noncomputable def f14_part (G : CG) (v0 : Option Nat) (v1 : Int) (v2 : Option Nat) (u : Sg) : Option (Sg) :=
  (gfI u 15 560 v0).bind fun x1 =>
  if (w32 v1) = (w32 x1) then
    (gfR u 15 561 v0).bind fun x2 =>
    if x2 = (G.2.2.2.2 2) then
      f14_part_b37 G v0 v2 u
    else
      (gfR u 15 561 v0).bind fun x3 =>
      if x3 = (G.2.2.2.2 3) then
        f14_part_b37 G v0 v2 u
      else
        (gfI u 15 562 v0).bind fun x4 =>
        (ztg u 5 v2).bind fun b5 =>
        (f4_add G (some b5) x4 u).bind fun u6 =>
        f14_part_b37 G v0 v2 u6
  else
    some u
noncomputable def f15_part_l2 (G : CG) (rc : Option Nat → Int → Option Nat → Sg → Option Sg) (v0 : Option Nat) (v1 : Int) (v2 : Option Nat) : Nat → Int → Sg → Option (Sg)
  | 0, _, _ => none
  | n + 1, v3, u =>
    (gfR u 16 601 v0).bind fun x1 =>
    (ztg u 6 x1).bind fun b2 =>
    (fJ2_size G (some b2) u).bind fun x3 =>
    if (w32 x3) ≤ (w32 v3) then
      some u
    else
      (gfR u 16 601 v0).bind fun x4 =>
      (ztg u 6 x4).bind fun b5 =>
      (fJ2_get G (some b5) v3 u).bind fun x6 =>
      (zcast u [12, 13, 14, 15, 16] x6).bind fun y7 =>
      (rc x6 v1 v2 u).bind fun u8 =>
      f15_part_l2 G rc v0 v1 v2 n (v3 + 1) u8
noncomputable def f15_part (G : CG)  (rc : Option Nat → Int → Option Nat → Sg → Option Sg) (v0 : Option Nat) (v1 : Int) (v2 : Option Nat) (u : Sg) : Option (Sg) :=
  (f15_part_l2 G rc v0 v1 v2 NN 0 u).bind fun q1 =>
  some q1
noncomputable def kv_part (G : CG) : Nat → Option Nat → Int → Option Nat → Sg → Option Sg
  | 0, _, _, _, _ => none
  | d + 1, r, y0, y1, u => r.bind fun b =>
    if zT u b = 12 then f11_part G (kv_part G d) (some b) y0 y1 u else
    if zT u b = 13 then f10_part G (some b) y0 y1 u else
    if zT u b = 14 then f10_part G (some b) y0 y1 u else
    if zT u b = 15 then f14_part G (some b) y0 y1 u else
    if zT u b = 16 then f15_part G (kv_part G d) (some b) y0 y1 u else
    none
noncomputable def f6_part_l2 (G : CG) (v0 : Option Nat) (v1 : Int) (v2 : Option Nat) : Nat → Int → Sg → Option (Sg)
  | 0, _, _ => none
  | n + 1, v3, u =>
    (gfR u 7 242 v0).bind fun x1 =>
    (ztg u 6 x1).bind fun b2 =>
    (fJ2_size G (some b2) u).bind fun x3 =>
    if (w32 x3) ≤ (w32 v3) then
      some u
    else
      (gfR u 7 242 v0).bind fun x4 =>
      (ztg u 6 x4).bind fun b5 =>
      (fJ2_get G (some b5) v3 u).bind fun x6 =>
      (zcast u [12, 13, 14, 15, 16] x6).bind fun y7 =>
      (kv_part G DD x6 v1 v2 u).bind fun u8 =>
      f6_part_l2 G v0 v1 v2 n (v3 + 1) u8
noncomputable def f6_part_l41 (G : CG) (v0 : Option Nat) (v1 : Int) (v2 : Option Nat) : Nat → Int → Sg → Option (Sg)
  | 0, _, _ => none
  | n + 1, v3, u =>
    (gfR u 7 243 v0).bind fun x1 =>
    (ztg u 6 x1).bind fun b2 =>
    (fJ2_size G (some b2) u).bind fun x3 =>
    if (w32 x3) ≤ (w32 v3) then
      some u
    else
      (gfR u 7 243 v0).bind fun x4 =>
      (ztg u 6 x4).bind fun b5 =>
      (fJ2_get G (some b5) v3 u).bind fun x6 =>
      (zcast u [17] x6).bind fun y7 =>
      (gfR u 17 641 x6).bind fun x8 =>
      (kv_part G DD x8 v1 v2 u).bind fun u9 =>
      f6_part_l41 G v0 v1 v2 n (v3 + 1) u9
noncomputable def f6_part_l83 (G : CG) (v0 : Option Nat) (v1 : Int) (v2 : Option Nat) : Nat → Int → Sg → Option (Sg)
  | 0, _, _ => none
  | n + 1, v3, u =>
    (gfR u 7 244 v0).bind fun x1 =>
    (ztg u 6 x1).bind fun b2 =>
    (fJ2_size G (some b2) u).bind fun x3 =>
    if (w32 x3) ≤ (w32 v3) then
      some u
    else
      (gfR u 7 244 v0).bind fun x4 =>
      (ztg u 6 x4).bind fun b5 =>
      (fJ2_get G (some b5) v3 u).bind fun x6 =>
      (zcast u [18] x6).bind fun y7 =>
      (gfR u 18 682 x6).bind fun x8 =>
      if x8 = none then
        f6_part_l83 G v0 v1 v2 n (v3 + 1) u
      else
        (gfR u 7 244 v0).bind fun x9 =>
        (ztg u 6 x9).bind fun b10 =>
        (fJ2_get G (some b10) v3 u).bind fun x11 =>
        (zcast u [18] x11).bind fun y12 =>
        (gfR u 18 682 x11).bind fun x13 =>
        (kv_part G DD x13 v1 v2 u).bind fun u14 =>
        f6_part_l83 G v0 v1 v2 n (v3 + 1) u14
noncomputable def f6_part (G : CG) (v0 : Option Nat) (v1 : Int) (v2 : Option Nat) (u : Sg) : Option (Sg) :=
  (f6_part_l2 G v0 v1 v2 NN 0 u).bind fun q1 =>
  (f6_part_l41 G v0 v1 v2 NN 0 q1).bind fun q2 =>
  (f6_part_l83 G v0 v1 v2 NN 0 q2).bind fun q3 =>
  some q3
noncomputable def f6_isParted_l5 (G : CG) (v0 : Option Nat) (v1 : Option Nat) : Nat → Int → Int → Sg → Option ((Int × Sg) × Nat × Nat)
  | 0, _, _, _ => none
  | n + 1, v2, v4, u =>
    (gfR u 7 240 v0).bind fun x1 =>
    (ztg u 6 x1).bind fun b2 =>
    (fJ2_size G (some b2) u).bind fun x3 =>
    if (w32 x3) ≤ (w32 v4) then
      some ((v2, u), 0, 0)
    else
      (ztg u 6 v1).bind fun b4 =>
      (fJ2_get G (some b4) v4 u).bind fun x5 =>
      (zcast u [5] x5).bind fun y6 =>
      (gfR u 7 240 v0).bind fun x7 =>
      (ztg u 6 x7).bind fun b8 =>
      (fJ2_get G (some b8) v4 u).bind fun x9 =>
      (zcast u [10] x9).bind fun y10 =>
      (ztg u 5 x5).bind fun b11 =>
      (f4_begin G (some b11) x9 u).bind fun u12 =>
      (ztg u12 7 v0).bind fun b13 =>
      (f6_part G (some b13) v4 x5 u12).bind fun u14 =>
      (gfI u14 5 161 x5).bind fun x15 =>
      f6_isParted_l5 G v0 v1 n (mn64 (v2 * (w32 x15)) 1000000) (v4 + 1) u14
noncomputable def f6_isParted_l89 (G : CG) (v0 : Option Nat) (v1 : Option Nat) (v2 : Int) : Nat → Int → Sg → Option ((Sg) × Nat × Nat)
  | 0, _, _ => none
  | n + 1, v4, u =>
    (gfR u 7 240 v0).bind fun x1 =>
    (ztg u 6 x1).bind fun b2 =>
    (fJ2_size G (some b2) u).bind fun x3 =>
    if (w32 x3) ≤ (w32 v4) then
      some (u, 0, 0)
    else
      if 2000 < (w64 v2) then
        some (u, 0, 0)
      else
        (gfR u 7 250 v0).bind fun x4 =>
        (ztg u 6 v1).bind fun b5 =>
        (fJ2_get G (some b5) v4 u).bind fun x6 =>
        (zcast u [5] x6).bind fun y7 =>
        (ztg u 5 x6).bind fun b8 =>
        bdU (f4_cutOut G (some b8) u) fun q9 =>
        (ztg q9.2 6 x4).bind fun b10 =>
        bdU (fJ2_add G (some b10) q9.1 q9.2) fun q11 =>
        f6_isParted_l89 G v0 v1 v2 n (v4 + 1) q11.2
noncomputable def f6_isParted_b141 (G : CG) (v2 : Int) (u : Sg) : Option ((Int × Sg) × Nat × Nat) :=
  if 2000 < (w64 v2) then
    some ((0, u), 0, 0)
  else
    some ((1, u), 0, 0)
noncomputable def f6_isParted (G : CG) (v0 : Option Nat) (v1 : Option Nat) (u : Sg) : Option ((Int × Sg) × Nat × Nat) :=
  bdU (f6_isParted_l5 G v0 v1 NN 1 0 u) fun q1 =>
  (pfI G.2.2.2.1 q1.2 7 251 v0 q1.1).bind fun u2 =>
  bdU (f6_isParted_l89 G v0 v1 q1.1 NN 0 u2) fun q3 =>
  f6_isParted_b141 G q1.1 q3
noncomputable def f0_finish (G : CG) (v0 : Option Nat) (v1 : Option Nat) (u : Sg) : Option (((Nat ⊕ (Int)) × Sg) × Nat × Nat) :=
  (gfR u 1 15 v0).bind fun x1 =>
  (gfR u 4 120 x1).bind fun x2 =>
  (ztg u 7 v1).bind fun b3 =>
  bdU (f6_isParted G (some b3) x2 u) fun q4 =>
  if (w32 q4.1) = 0 then
    bdU (zNew q4.2 9 8) fun q16 =>
    (gfI q16.2 1 2 v0).bind fun x17 =>
    (f8_init G (some q16.1) 7 x17 q16.2).bind fun u18 =>
    xth q16.1 u18
  else
    (ztg q4.2 7 v1).bind fun b5 =>
    (f6_countNodes G (some b5) q4.2).bind fun q6 =>
    (gfR q6.2 1 13 v0).bind fun x7 =>
    (ztg q6.2 7 v1).bind fun b8 =>
    bdU (f6_answerAll G (some b8) x7 q6.2) fun q9 =>
    (gfR q9 1 5 v0).bind fun x10 =>
    (ztg q9 6 x10).bind fun b11 =>
    bdU (fJ2_add G (some b11) v1 q9) fun q12 =>
    (gfR q12.2 1 5 v0).bind fun x13 =>
    (ztg q12.2 6 x13).bind fun b14 =>
    (fJ2_size G (some b14) q12.2).bind fun x15 =>
    some ((.inr x15, q12.2), 0, 0)
noncomputable def f0_isWord_l2 (G : CG) (v0 : Option Nat) (v1 : Int) (u : Sg) : Nat → Int → Option ((Unit) ⊕ (Unit))
  | 0, _ => none
  | n + 1, v3 =>
    (gfR u 1 0 v0).bind fun x1 =>
    (alen u 4 x1).bind fun x2 =>
    if (w32 x2) ≤ (w32 v3) then
      some (.inr ())
    else
      (gfR u 1 0 v0).bind fun x3 =>
      (alI u 4 x3 v3).bind fun x4 =>
      if (w64 x4) = (w64 v1) then
        some (.inl ())
      else
        f0_isWord_l2 G v0 v1 u n (v3 + 1)
noncomputable def f0_isWord (G : CG) (v0 : Option Nat) (v1 : Int) (u : Sg) : Option (Int) :=
  (f0_isWord_l2 G v0 v1 u NN 0).bind
    (Sum.elim
      (fun q1 =>
        some 1)
      (fun q2 =>
        some 0))
noncomputable def f7_isFigure (G : CG) (v0 : Option Nat) (v1 : Int) (u : Sg) : Option (Int) :=
  if (w32 v1) < 48 then
    some 0
  else
    if 57 < (w32 v1) then
      some 0
    else
      some 1
noncomputable def f7_isLetter (G : CG) (v0 : Option Nat) (v1 : Int) (u : Sg) : Option (Int) :=
  if (w32 v1) < 97 then
    some 0
  else
    if 122 < (w32 v1) then
      some 0
    else
      some 1
noncomputable def f7_octet (G : CG) (v0 : Option Nat) (v1 : Int) (u : Sg) : Option (Int) :=
  (gfR u 8 290 v0).bind fun x1 =>
  (gfI u 1 2 x1).bind fun x2 =>
  if (w32 x2) ≤ (w32 v1) then
    some (-1)
  else
    (gfR u 8 290 v0).bind fun x3 =>
    (gfR u 1 1 x3).bind fun x4 =>
    (alI u 2 x4 v1).bind fun x5 =>
    some (and32 x5 255)
noncomputable def f7_pass_b82 (G : CG) (kh : Int → Sg → Option (Sg)) (v0 : Option Nat) (v1 : Int) (u : Sg) : Option (Sg) :=
  (gfI u 8 280 v0).bind fun x1 =>
  (pfI G.2.2.2.1 u 8 280 v0 (x1 + 1)).bind fun u2 =>
  kh v1 u2
noncomputable def f7_pass_l21 (G : CG) (v0 : Option Nat) (v1 : Int) : Nat → Sg → Option (Sg)
  | 0, _ => none
  | n + 1, u =>
    (gfI u 8 280 v0).bind fun x1 =>
    (ztg u 8 v0).bind fun b2 =>
    (f7_octet G (some b2) x1 u).bind fun x3 =>
    if (w32 x3) < 0 then
      some u
    else
      (gfI u 8 280 v0).bind fun x4 =>
      (ztg u 8 v0).bind fun b5 =>
      (f7_octet G (some b5) x4 u).bind fun x6 =>
      if (w32 x6) = 10 then
        some u
      else
        (gfI u 8 280 v0).bind fun x7 =>
        (pfI G.2.2.2.1 u 8 280 v0 (x7 + 1)).bind fun u8 =>
        f7_pass_l21 G v0 v1 n u8
noncomputable def f7_pass_l2 (G : CG) (v0 : Option Nat) : Nat → Int → Sg → Option (Sg)
  | 0, _, _ => none
  | n + 1, v1, u =>
    if (w32 v1) = 0 then
      some u
    else
      (gfI u 8 280 v0).bind fun x1 =>
      (ztg u 8 v0).bind fun b2 =>
      (f7_octet G (some b2) x1 u).bind fun x3 =>
      if (w32 x3) = 35 then
        (f7_pass_l21 G v0 v1 NN u).bind fun q8 =>
        f7_pass_l2 G v0 n v1 q8
      else
        if (w32 x3) = 32 then
          f7_pass_b82 G (f7_pass_l2 G v0 n) v0 v1 u
        else
          if (w32 x3) = 9 then
            f7_pass_b82 G (f7_pass_l2 G v0 n) v0 v1 u
          else
            if (w32 x3) = 10 then
              f7_pass_b82 G (f7_pass_l2 G v0 n) v0 v1 u
            else
              if (w32 x3) = 13 then
                f7_pass_b82 G (f7_pass_l2 G v0 n) v0 v1 u
              else
                f7_pass_l2 G v0 n 0 u
noncomputable def f7_pass (G : CG) (v0 : Option Nat) (u : Sg) : Option (Sg) :=
  (f7_pass_l2 G v0 NN 1 u).bind fun q1 =>
  some q1
noncomputable def f7_sign_b126 (G : CG) (v0 : Option Nat) (v3 : Int) (u : Sg) : Option (((Nat ⊕ (Unit)) × Sg) × Nat × Nat) :=
  (gfI u 8 280 v0).bind fun x1 =>
  if (w32 v3) = 0 then
    (pfI G.2.2.2.1 u 8 280 v0 (x1 + 1)).bind fun u2 =>
    some ((.inr (), u2), 0, 0)
  else
    (pfI G.2.2.2.1 u 8 280 v0 (x1 + 2)).bind fun u3 =>
    some ((.inr (), u3), 0, 0)
noncomputable def f7_sign_b68 (G : CG) (v0 : Option Nat) (v1 : Int) (v3 : Int) (s0 : Option Nat) (s1 : Int) (u : Sg) : Option (((Nat ⊕ (Unit)) × Sg) × Nat × Nat) :=
  (pfI G.2.2.2.1 u 8 285 s0 s1).bind fun u1 =>
  if (w32 v1) = 59 then
    f7_sign_b126 G v0 v3 u1
  else
    if (w32 v1) = 44 then
      f7_sign_b126 G v0 v3 u1
    else
      if (w32 v1) = 40 then
        f7_sign_b126 G v0 v3 u1
      else
        if (w32 v1) = 41 then
          f7_sign_b126 G v0 v3 u1
        else
          if (w32 v1) = 61 then
            f7_sign_b126 G v0 v3 u1
          else
            if (w32 v1) = 60 then
              f7_sign_b126 G v0 v3 u1
            else
              if (w32 v1) = 62 then
                f7_sign_b126 G v0 v3 u1
              else
                bdU (zNew u1 9 8) fun q2 =>
                (gfI q2.2 8 282 v0).bind fun x3 =>
                (f8_init G (some q2.1) 1 x3 q2.2).bind fun u4 =>
                xth q2.1 u4
noncomputable def f7_sign_b46 (G : CG) (v0 : Option Nat) (v1 : Int) (v2 : Int) (s0 : Int) (u : Sg) : Option (((Nat ⊕ (Unit)) × Sg) × Nat × Nat) :=
  (pfI G.2.2.2.1 u 8 281 v0 3).bind fun u1 =>
  if (w32 s0) = 0 then
    f7_sign_b68 G v0 v1 s0 v0 v1 u1
  else
    f7_sign_b68 G v0 v1 s0 v0 ((256 * v1) + v2) u1
noncomputable def f7_sign_b45 (G : CG) (v0 : Option Nat) (v1 : Int) (v2 : Int) (u : Sg) : Option (((Nat ⊕ (Unit)) × Sg) × Nat × Nat) :=
  f7_sign_b46 G v0 v1 v2 0 u
noncomputable def f7_sign_b41 (G : CG) (v0 : Option Nat) (v1 : Int) (v2 : Int) (u : Sg) : Option (((Nat ⊕ (Unit)) × Sg) × Nat × Nat) :=
  f7_sign_b46 G v0 v1 v2 1 u
noncomputable def f7_sign_b29 (G : CG) (v0 : Option Nat) (v1 : Int) (v2 : Int) (u : Sg) : Option (((Nat ⊕ (Unit)) × Sg) × Nat × Nat) :=
  if (w32 v1) = 60 then
    if (w32 v2) = 62 then
      f7_sign_b41 G v0 v1 v2 u
    else
      f7_sign_b45 G v0 v1 v2 u
  else
    f7_sign_b45 G v0 v1 v2 u
noncomputable def f7_sign (G : CG) (v0 : Option Nat) (v1 : Int) (u : Sg) : Option (((Nat ⊕ (Unit)) × Sg) × Nat × Nat) :=
  (gfI u 8 280 v0).bind fun x1 =>
  (ztg u 8 v0).bind fun b2 =>
  (f7_octet G (some b2) (x1 + 1) u).bind fun x3 =>
  if (w32 x3) = 61 then
    if (w32 v1) = 60 then
      f7_sign_b41 G v0 v1 x3 u
    else
      if (w32 v1) = 62 then
        f7_sign_b41 G v0 v1 x3 u
      else
        f7_sign_b29 G v0 v1 x3 u
  else
    f7_sign_b29 G v0 v1 x3 u
noncomputable def f7_next_b234 (G : CG) (kh : Sg → Option ((Sg) × Nat × Nat)) (v0 : Option Nat) (s0 : Option Nat) (s1 : Int) (u : Sg) : Option ((Sg) × Nat × Nat) :=
  (pfI G.2.2.2.1 u 8 284 s0 s1).bind fun u1 =>
  (gfI u1 8 280 v0).bind fun x2 =>
  (pfI G.2.2.2.1 u1 8 280 v0 (x2 + 1)).bind fun u3 =>
  kh u3
noncomputable def f7_next_l178 (G : CG) (v0 : Option Nat) : Nat → Sg → Option ((Sg) × Nat × Nat)
  | 0, _ => none
  | n + 1, u =>
    (gfI u 8 280 v0).bind fun x1 =>
    (ztg u 8 v0).bind fun b2 =>
    (f7_octet G (some b2) x1 u).bind fun x3 =>
    (ztg u 8 v0).bind fun b4 =>
    (f7_isFigure G (some b4) x3 u).bind fun x5 =>
    if (w32 x5) = 0 then
      some (u, 0, 0)
    else
      (gfI u 8 280 v0).bind fun x6 =>
      (gfI u 8 282 v0).bind fun x7 =>
      if 9 ≤ (w32 (x6 - x7)) then
        (gfI u 8 284 v0).bind fun x8 =>
        f7_next_b234 G (f7_next_l178 G v0 n) v0 v0 x8 u
      else
        (gfI u 8 284 v0).bind fun x9 =>
        (gfI u 8 280 v0).bind fun x10 =>
        (ztg u 8 v0).bind fun b11 =>
        (f7_octet G (some b11) x10 u).bind fun x12 =>
        f7_next_b234 G (f7_next_l178 G v0 n) v0 v0 (((10 * x9) + x12) - 48) u
noncomputable def f7_next_b76 (G : CG) (kh : Sg → Option ((Sg) × Nat × Nat)) (v0 : Option Nat) (u : Sg) : Option ((Sg) × Nat × Nat) :=
  (gfI u 8 283 v0).bind fun x1 =>
  (gfI u 8 280 v0).bind fun x2 =>
  (pfI G.2.2.2.1 u 8 280 v0 (x2 + 1)).bind fun u3 =>
  (ztg u3 8 v0).bind fun b4 =>
  (f7_octet G (some b4) x2 u3).bind fun x5 =>
  (pfI G.2.2.2.1 u3 8 283 v0 (or64 (shl64 x1 8) (w32 x5))).bind fun u6 =>
  kh u6
noncomputable def f7_next_l46 (G : CG) (v0 : Option Nat) : Nat → Sg → Option ((Sg) × Nat × Nat)
  | 0, _ => none
  | n + 1, u =>
    (gfI u 8 280 v0).bind fun x1 =>
    (ztg u 8 v0).bind fun b2 =>
    (f7_octet G (some b2) x1 u).bind fun x3 =>
    (ztg u 8 v0).bind fun b4 =>
    (f7_isLetter G (some b4) x3 u).bind fun x5 =>
    if (w32 x5) = 0 then
      (gfI u 8 280 v0).bind fun x6 =>
      (ztg u 8 v0).bind fun b7 =>
      (f7_octet G (some b7) x6 u).bind fun x8 =>
      (ztg u 8 v0).bind fun b9 =>
      (f7_isFigure G (some b9) x8 u).bind fun x10 =>
      if (w32 x10) = 0 then
        some (u, 0, 0)
      else
        f7_next_b76 G (f7_next_l46 G v0 n) v0 u
    else
      f7_next_b76 G (f7_next_l46 G v0 n) v0 u
noncomputable def f7_next (G : CG) (v0 : Option Nat) (u : Sg) : Option (((Nat ⊕ (Unit)) × Sg) × Nat × Nat) :=
  (ztg u 8 v0).bind fun b1 =>
  (f7_pass G (some b1) u).bind fun u2 =>
  (gfI u2 8 280 v0).bind fun x3 =>
  (pfI G.2.2.2.1 u2 8 282 v0 x3).bind fun u4 =>
  (gfI u4 8 280 v0).bind fun x5 =>
  (ztg u4 8 v0).bind fun b6 =>
  (f7_octet G (some b6) x5 u4).bind fun x7 =>
  if 0 ≤ (w32 x7) then
    (ztg u4 8 v0).bind fun b8 =>
    (f7_isLetter G (some b8) x7 u4).bind fun x9 =>
    if (w32 x9) = 0 then
      (ztg u4 8 v0).bind fun b10 =>
      (f7_isFigure G (some b10) x7 u4).bind fun x11 =>
      if (w32 x11) = 0 then
        (ztg u4 8 v0).bind fun b12 =>
        bdU (f7_sign G (some b12) x7 u4) fun q13 => tel q13.1 (fun e14 => xth e14 q13.2) fun x15 =>
        some ((.inr (), q13.2), 0, 0)
      else
        (pfI G.2.2.2.1 u4 8 281 v0 2).bind fun u16 =>
        (pfI G.2.2.2.1 u16 8 284 v0 0).bind fun u17 =>
        bdU (f7_next_l178 G v0 NN u17) fun q18 =>
        (gfI q18 8 280 v0).bind fun x19 =>
        (gfI q18 8 282 v0).bind fun x20 =>
        if (w32 (x19 - x20)) ≤ 9 then
          some ((.inr (), q18), 0, 0)
        else
          bdU (zNew q18 9 8) fun q21 =>
          (gfI q21.2 8 282 v0).bind fun x22 =>
          (f8_init G (some q21.1) 1 x22 q21.2).bind fun u23 =>
          xth q21.1 u23
    else
      (pfI G.2.2.2.1 u4 8 283 v0 0).bind fun u26 =>
      bdU (f7_next_l46 G v0 NN u26) fun q27 =>
      (gfI q27 8 280 v0).bind fun x28 =>
      (gfI q27 8 282 v0).bind fun x29 =>
      if (w32 (x28 - x29)) ≤ 8 then
        (gfR q27 8 290 v0).bind fun x30 =>
        (gfI q27 8 283 v0).bind fun x31 =>
        (ztg q27 1 x30).bind fun b32 =>
        (f0_isWord G (some b32) x31 q27).bind fun x33 =>
        if (w32 x33) = 0 then
          (pfI G.2.2.2.1 q27 8 281 v0 1).bind fun u34 =>
          some ((.inr (), u34), 0, 0)
        else
          (pfI G.2.2.2.1 q27 8 281 v0 4).bind fun u35 =>
          some ((.inr (), u35), 0, 0)
      else
        bdU (zNew q27 9 8) fun q37 =>
        (gfI q37.2 8 282 v0).bind fun x38 =>
        (f8_init G (some q37.1) 1 x38 q37.2).bind fun u39 =>
        xth q37.1 u39
  else
    (pfI G.2.2.2.1 u4 8 281 v0 0).bind fun u42 =>
    some ((.inr (), u42), 0, 0)
noncomputable def f7_init (G : CG) (v0 : Option Nat) (v1 : Option Nat) (v2 : Option Nat) (v3 : Int) (u : Sg) : Option (((Nat ⊕ (Unit)) × Sg) × Nat × Nat) :=
  (pfR G.2.2.2.1 u 8 290 v0 v1).bind fun u1 =>
  v0.bind fun b2 =>
  (pfR G.2.2.2.1 u1 8 286 (some b2) v2).bind fun u3 =>
  (pfI G.2.2.2.1 u3 8 289 (some b2) v3).bind fun u4 =>
  (ztg u4 8 (some b2)).bind fun b5 =>
  bdU (f7_next G (some b5) u4) fun q6 => tel q6.1 (fun e7 => xth e7 q6.2) fun x8 =>
  some ((.inr (), q6.2), 0, 0)
noncomputable def f16_init (G : CG) (v0 : Option Nat) (v1 : Int) (v2 : Option Nat) (v3 : Int) (u : Sg) : Option (Sg) :=
  v0.bind fun b1 =>
  (pfI G.2.2.2.1 u 17 640 (some b1) v1).bind fun u2 =>
  (pfR G.2.2.2.1 u2 17 641 (some b1) v2).bind fun u3 =>
  (pfI G.2.2.2.1 u3 17 642 (some b1) v3).bind fun u4 =>
  some u4
noncomputable def f10_init (G : CG) (v0 : Option Nat) (u : Sg) : Option (Sg) :=
  v0.bind fun b1 =>
  some u
noncomputable def f11_init (G : CG) (v0 : Option Nat) (v1 : Option Nat) (u : Sg) : Option (Sg) :=
  v0.bind fun b1 =>
  (f10_init G (some b1) u).bind fun u2 =>
  (pfR G.2.2.2.1 u2 12 440 (some b1) v1).bind fun u3 =>
  some u3
noncomputable def f7_deeper (G : CG) (v0 : Option Nat) (u : Sg) : Option (((Nat ⊕ (Unit)) × Sg) × Nat × Nat) :=
  (gfI u 8 287 v0).bind fun x1 =>
  if (w32 x1) ≤ 15 then
    (gfI u 8 287 v0).bind fun x2 =>
    (pfI G.2.2.2.1 u 8 287 v0 (x2 + 1)).bind fun u3 =>
    (ztg u3 8 v0).bind fun b4 =>
    bdU (f7_next G (some b4) u3) fun q5 => tel q5.1 (fun e6 => xth e6 q5.2) fun x7 =>
    some ((.inr (), q5.2), 0, 0)
  else
    bdU (zNew u 9 8) fun q8 =>
    (gfI q8.2 8 282 v0).bind fun x9 =>
    (f8_init G (some q8.1) 6 x9 q8.2).bind fun u10 =>
    xth q8.1 u10
noncomputable def f7_is (G : CG) (v0 : Option Nat) (v1 : Int) (u : Sg) : Option (Int) :=
  (gfI u 8 281 v0).bind fun x1 =>
  if (w32 x1) = 4 then
    (gfI u 8 283 v0).bind fun x2 =>
    if (w64 x2) = (w64 v1) then
      some 1
    else
      some 0
  else
    some 0
noncomputable def f7_isSign (G : CG) (v0 : Option Nat) (v1 : Int) (u : Sg) : Option (Int) :=
  (gfI u 8 281 v0).bind fun x1 =>
  if (w32 x1) = 3 then
    (gfI u 8 285 v0).bind fun x2 =>
    if (w32 x2) = (w32 v1) then
      some 1
    else
      some 0
  else
    some 0
noncomputable def f9_choice_l2 (G : CG) (v0 : Option Nat) (v1 : Int) (u : Sg) : Nat → Int → Option ((Int) ⊕ (Unit))
  | 0, _ => none
  | n + 1, v3 =>
    (gfI u 10 363 v0).bind fun x1 =>
    if (w32 x1) ≤ (w32 v3) then
      some (.inr ())
    else
      (gfR u 10 362 v0).bind fun x2 =>
      (alI u 4 x2 v3).bind fun x3 =>
      if (w64 x3) = (w64 v1) then
        some (.inl v3)
      else
        f9_choice_l2 G v0 v1 u n (v3 + 1)
noncomputable def f9_choice (G : CG) (v0 : Option Nat) (v1 : Int) (u : Sg) : Option (Int) :=
  (f9_choice_l2 G v0 v1 u NN 0).bind
    (Sum.elim
      (fun q1 =>
        some q1)
      (fun q2 =>
        some (-1)))
noncomputable def f13_init (G : CG) (v0 : Option Nat) (v1 : Int) (v2 : Int) (v3 : Int) (u : Sg) : Option (Sg) :=
  v0.bind fun b1 =>
  (f10_init G (some b1) u).bind fun u2 =>
  (pfI G.2.2.2.1 u2 14 520 (some b1) v1).bind fun u3 =>
  (pfI G.2.2.2.1 u3 14 521 (some b1) v2).bind fun u4 =>
  if w32 v3 = 0 ∨ w32 v3 = 1 then
    (pfI G.2.2.2.1 u4 14 522 (some b1) v3).bind fun u5 =>
    some u5
  else none
noncomputable def f12_init (G : CG) (v0 : Option Nat) (v1 : Int) (u : Sg) : Option (Sg) :=
  v0.bind fun b1 =>
  (f10_init G (some b1) u).bind fun u2 =>
  (pfI G.2.2.2.1 u2 13 480 (some b1) v1).bind fun u3 =>
  some u3
noncomputable def f14_init (G : CG) (v0 : Option Nat) (v1 : Int) (v2 : Option Nat) (v3 : Int) (u : Sg) : Option (Sg) :=
  v0.bind fun b1 =>
  (f10_init G (some b1) u).bind fun u2 =>
  (pfI G.2.2.2.1 u2 15 560 (some b1) v1).bind fun u3 =>
  (pfR G.2.2.2.1 u3 15 561 (some b1) v2).bind fun u4 =>
  (pfI G.2.2.2.1 u4 15 562 (some b1) v3).bind fun u5 =>
  some u5
noncomputable def f7_node (G : CG) (v0 : Option Nat) (u : Sg) : Option (((Nat ⊕ (Unit)) × Sg) × Nat × Nat) :=
  (gfI u 8 288 v0).bind fun x1 =>
  (pfI G.2.2.2.1 u 8 288 v0 (x1 + 1)).bind fun u2 =>
  (gfI u2 8 289 v0).bind fun x3 =>
  if (w32 (x1 + 1)) ≤ (w32 x3) then
    some ((.inr (), u2), 0, 0)
  else
    bdU (zNew u2 9 8) fun q4 =>
    (gfI q4.2 8 282 v0).bind fun x5 =>
    (f8_init G (some q4.1) 6 x5 q4.2).bind fun u6 =>
    xth q4.1 u6
noncomputable def f7_wantKind (G : CG) (v0 : Option Nat) (v1 : Int) (u : Sg) : Option (((Nat ⊕ (Unit)) × Sg) × Nat × Nat) :=
  (gfI u 8 281 v0).bind fun x1 =>
  if (w32 x1) = (w32 v1) then
    some ((.inr (), u), 0, 0)
  else
    bdU (zNew u 9 8) fun q2 =>
    (gfI q2.2 8 282 v0).bind fun x3 =>
    (f8_init G (some q2.1) 2 x3 q2.2).bind fun u4 =>
    xth q2.1 u4
noncomputable def f7_number_b21 (G : CG) (v0 : Option Nat) (u : Sg) : Option (((Nat ⊕ (Int)) × Sg) × Nat × Nat) :=
  bdU (zNew u 9 8) fun q1 =>
  (gfI q1.2 8 282 v0).bind fun x2 =>
  (f8_init G (some q1.1) 5 x2 q1.2).bind fun u3 =>
  xth q1.1 u3
noncomputable def f7_number (G : CG) (v0 : Option Nat) (v1 : Int) (v2 : Int) (u : Sg) : Option (((Nat ⊕ (Int)) × Sg) × Nat × Nat) :=
  (ztg u 8 v0).bind fun b1 =>
  bdU (f7_wantKind G (some b1) 2 u) fun q2 => tel q2.1 (fun e3 => xth e3 q2.2) fun x4 =>
  (gfI q2.2 8 284 v0).bind fun x5 =>
  if (w32 x5) < (w32 v1) then
    f7_number_b21 G v0 q2.2
  else
    (gfI q2.2 8 284 v0).bind fun x6 =>
    if (w32 x6) ≤ (w32 v2) then
      (gfI q2.2 8 284 v0).bind fun x7 =>
      (ztg q2.2 8 v0).bind fun b8 =>
      bdU (f7_next G (some b8) q2.2) fun q9 => tel q9.1 (fun e10 => xth e10 q9.2) fun x11 =>
      some ((.inr x7, q9.2), 0, 0)
    else
      f7_number_b21 G v0 q2.2
noncomputable def f7_signAtHand (G : CG) (v0 : Option Nat) (u : Sg) : Option (Option Nat) :=
  (gfI u 8 281 v0).bind fun x1 =>
  if (w32 x1) = 3 then
    (gfI u 8 285 v0).bind fun x2 =>
    if (w32 x2) = 61 then
      some (G.2.2.2.2 0)
    else
      (gfI u 8 285 v0).bind fun x3 =>
      if (w32 x3) = 60 then
        some (G.2.2.2.2 1)
      else
        (gfI u 8 285 v0).bind fun x4 =>
        if (w32 x4) = 62 then
          some (G.2.2.2.2 2)
        else
          (gfI u 8 285 v0).bind fun x5 =>
          if (w32 x5) = 15421 then
            some (G.2.2.2.2 3)
          else
            (gfI u 8 285 v0).bind fun x6 =>
            if (w32 x6) = 15933 then
              some (G.2.2.2.2 4)
            else
              (gfI u 8 285 v0).bind fun x7 =>
              if (w32 x7) = 15422 then
                some (G.2.2.2.2 5)
              else
                some none
  else
    some none
noncomputable def f6_fact_l2 (G : CG) (v0 : Option Nat) (v1 : Int) (u : Sg) : Nat → Int → Option ((Int) ⊕ (Unit))
  | 0, _ => none
  | n + 1, v3 =>
    (gfR u 7 240 v0).bind fun x1 =>
    (ztg u 6 x1).bind fun b2 =>
    (fJ2_size G (some b2) u).bind fun x3 =>
    if (w32 x3) ≤ (w32 v3) then
      some (.inr ())
    else
      (gfR u 7 240 v0).bind fun x4 =>
      (ztg u 6 x4).bind fun b5 =>
      (fJ2_get G (some b5) v3 u).bind fun x6 =>
      (zcast u [10] x6).bind fun y7 =>
      (gfI u 10 360 x6).bind fun x8 =>
      if (w64 x8) = (w64 v1) then
        some (.inl v3)
      else
        f6_fact_l2 G v0 v1 u n (v3 + 1)
noncomputable def f6_fact (G : CG) (v0 : Option Nat) (v1 : Int) (u : Sg) : Option (Int) :=
  (f6_fact_l2 G v0 v1 u NN 0).bind
    (Sum.elim
      (fun q1 =>
        some q1)
      (fun q2 =>
        some (-1)))
noncomputable def f6_meaning_l2 (G : CG) (v0 : Option Nat) (v1 : Int) (u : Sg) : Nat → Int → Option ((Int) ⊕ (Unit))
  | 0, _ => none
  | n + 1, v3 =>
    (gfR u 7 241 v0).bind fun x1 =>
    (ztg u 6 x1).bind fun b2 =>
    (fJ2_size G (some b2) u).bind fun x3 =>
    if (w32 x3) ≤ (w32 v3) then
      some (.inr ())
    else
      (gfR u 7 241 v0).bind fun x4 =>
      (ztg u 6 x4).bind fun b5 =>
      (fJ2_get G (some b5) v3 u).bind fun x6 =>
      (zcast u [29] x6).bind fun y7 =>
      (ztg u 29 x6).bind fun b8 =>
      (fJ15_longValue G (some b8) u).bind fun x9 =>
      if (w64 x9) = (w64 v1) then
        some (.inl v3)
      else
        f6_meaning_l2 G v0 v1 u n (v3 + 1)
noncomputable def f6_meaning (G : CG) (v0 : Option Nat) (v1 : Int) (u : Sg) : Option (Int) :=
  (f6_meaning_l2 G v0 v1 u NN 0).bind
    (Sum.elim
      (fun q1 =>
        some q1)
      (fun q2 =>
        some (-1)))
noncomputable def f7_named_b136 (G : CG) (v0 : Option Nat) (u : Sg) : Option (((Nat ⊕ (Option Nat)) × Sg) × Nat × Nat) :=
  bdU (zNew u 9 8) fun q1 =>
  (gfI q1.2 8 282 v0).bind fun x2 =>
  (f8_init G (some q1.1) 2 x2 q1.2).bind fun u3 =>
  xth q1.1 u3
noncomputable def f7_named_b236 (G : CG) (s0 : Option Nat) (s1 : Option Nat) (s2 : Int) (s3 : Int) (s4 : Int) (u : Sg) : Option (((Nat ⊕ (Option Nat)) × Sg) × Nat × Nat) :=
  s1.bind fun b1 =>
  (f13_init G (some b1) s2 s3 s4 u).bind fun u2 =>
  some ((.inr s0, u2), 0, 0)
noncomputable def f7_named_b149 (G : CG) (v0 : Option Nat) (v1 : Int) (v3 : Option Nat) (v4 : Option Nat) (u : Sg) : Option (((Nat ⊕ (Option Nat)) × Sg) × Nat × Nat) :=
  (ztg u 8 v0).bind fun b1 =>
  bdU (f7_next G (some b1) u) fun q2 => tel q2.1 (fun e3 => xth e3 q2.2) fun x4 =>
  (gfI q2.2 10 361 v3).bind fun x5 =>
  if (w32 x5) = 2 then
    bdU (zNew q2.2 15 3) fun q23 =>
    (ztg q23.2 8 v0).bind fun b24 =>
    bdU (f7_number G (some b24) 0 999999999 q23.2) fun q25 => tel q25.1 (fun e26 => xth e26 q25.2) fun x27 =>
    (f14_init G (some q23.1) v1 v4 x27 q25.2).bind fun u28 =>
    some ((.inr (some q23.1), u28), 0, 0)
  else
    (ztg q2.2 8 v0).bind fun b6 =>
    bdU (f7_wantKind G (some b6) 1 q2.2) fun q7 => tel q7.1 (fun e8 => xth e8 q7.2) fun x9 =>
    (gfI q7.2 8 283 v0).bind fun x10 =>
    (ztg q7.2 10 v3).bind fun b11 =>
    (f9_choice G (some b11) x10 q7.2).bind fun x12 =>
    if 0 ≤ (w32 x12) then
      (ztg q7.2 8 v0).bind fun b13 =>
      bdU (f7_next G (some b13) q7.2) fun q14 => tel q14.1 (fun e15 => xth e15 q14.2) fun x16 =>
      bdU (zNew q14.2 14 3) fun q17 =>
      if v4 = (G.2.2.2.2 5) then
        f7_named_b236 G (some q17.1) (some q17.1) v1 x12 1 q17.2
      else
        f7_named_b236 G (some q17.1) (some q17.1) v1 x12 0 q17.2
    else
      bdU (zNew q7.2 9 8) fun q19 =>
      (gfI q19.2 8 282 v0).bind fun x20 =>
      (f8_init G (some q19.1) 4 x20 q19.2).bind fun u21 =>
      xth q19.1 u21
noncomputable def f7_named_b45 (G : CG) (v0 : Option Nat) (v1 : Int) (v2 : Int) (u : Sg) : Option (((Nat ⊕ (Option Nat)) × Sg) × Nat × Nat) :=
  (ztg u 8 v0).bind fun b1 =>
  bdU (f7_node G (some b1) u) fun q2 => tel q2.1 (fun e3 => xth e3 q2.2) fun x4 =>
  (ztg q2.2 8 v0).bind fun b5 =>
  bdU (f7_next G (some b5) q2.2) fun q6 => tel q6.1 (fun e7 => xth e7 q6.2) fun x8 =>
  if 0 ≤ (w32 v1) then
    (gfR q6.2 8 286 v0).bind fun x9 =>
    (gfR q6.2 7 240 x9).bind fun x10 =>
    (ztg q6.2 6 x10).bind fun b11 =>
    (fJ2_get G (some b11) v1 q6.2).bind fun x12 =>
    (zcast q6.2 [10] x12).bind fun y13 =>
    (gfI q6.2 10 361 x12).bind fun x14 =>
    if (w32 x14) = 0 then
      bdU (zNew q6.2 14 3) fun q22 =>
      (f13_init G (some q22.1) v1 1 0 q22.2).bind fun u23 =>
      some ((.inr (some q22.1), u23), 0, 0)
    else
      (ztg q6.2 8 v0).bind fun b15 =>
      (f7_signAtHand G (some b15) q6.2).bind fun x16 =>
      if x16 = none then
        f7_named_b136 G v0 q6.2
      else
        (gfI q6.2 10 361 x12).bind fun x17 =>
        if (w32 x17) = 1 then
          if x16 = (G.2.2.2.2 0) then
            f7_named_b149 G v0 v1 x12 x16 q6.2
          else
            if x16 = (G.2.2.2.2 5) then
              f7_named_b149 G v0 v1 x12 x16 q6.2
            else
              f7_named_b136 G v0 q6.2
        else
          f7_named_b149 G v0 v1 x12 x16 q6.2
  else
    bdU (zNew q6.2 13 1) fun q25 =>
    (f12_init G (some q25.1) v2 q25.2).bind fun u26 =>
    some ((.inr (some q25.1), u26), 0, 0)
noncomputable def f7_named (G : CG) (v0 : Option Nat) (u : Sg) : Option (((Nat ⊕ (Option Nat)) × Sg) × Nat × Nat) :=
  (gfR u 8 286 v0).bind fun x1 =>
  (gfI u 8 283 v0).bind fun x2 =>
  (ztg u 7 x1).bind fun b3 =>
  (f6_fact G (some b3) x2 u).bind fun x4 =>
  (gfR u 8 286 v0).bind fun x5 =>
  (gfI u 8 283 v0).bind fun x6 =>
  (ztg u 7 x5).bind fun b7 =>
  (f6_meaning G (some b7) x6 u).bind fun x8 =>
  if 0 ≤ (w32 x4) then
    f7_named_b45 G v0 x4 x8 u
  else
    if 0 ≤ (w32 x8) then
      f7_named_b45 G v0 x4 x8 u
    else
      bdU (zNew u 9 8) fun q9 =>
      (gfI q9.2 8 282 v0).bind fun x10 =>
      (f8_init G (some q9.1) 4 x10 q9.2).bind fun u11 =>
      xth q9.1 u11
noncomputable def f7_want (G : CG) (v0 : Option Nat) (v1 : Int) (u : Sg) : Option (((Nat ⊕ (Unit)) × Sg) × Nat × Nat) :=
  (ztg u 8 v0).bind fun b1 =>
  (f7_isSign G (some b1) v1 u).bind fun x2 =>
  if (w32 x2) = 0 then
    bdU (zNew u 9 8) fun q7 =>
    (gfI q7.2 8 282 v0).bind fun x8 =>
    (f8_init G (some q7.1) 2 x8 q7.2).bind fun u9 =>
    xth q7.1 u9
  else
    (ztg u 8 v0).bind fun b3 =>
    bdU (f7_next G (some b3) u) fun q4 => tel q4.1 (fun e5 => xth e5 q4.2) fun x6 =>
    some ((.inr (), q4.2), 0, 0)
noncomputable def f7_part (G : CG)  (rc : RC7) (v0 : Option Nat) (u : Sg) : Option (((Nat ⊕ (Option Nat)) × Sg) × Nat × Nat) :=
  (ztg u 8 v0).bind fun b1 =>
  (f7_is G (some b1) 7237492 u).bind fun x2 =>
  if (w32 x2) = 0 then
    (ztg u 8 v0).bind fun b3 =>
    (f7_isSign G (some b3) 40 u).bind fun x4 =>
    if (w32 x4) = 0 then
      (ztg u 8 v0).bind fun b5 =>
      bdU (f7_wantKind G (some b5) 1 u) fun q6 => tel q6.1 (fun e7 => xth e7 q6.2) fun x8 =>
      (ztg q6.2 8 v0).bind fun b9 =>
      bdU (f7_named G (some b9) q6.2) fun q10 => tel q10.1 (fun e11 => xth e11 q10.2) fun x12 =>
      some ((.inr x12, q10.2), 0, 0)
    else
      (ztg u 8 v0).bind fun b13 =>
      bdU (f7_deeper G (some b13) u) fun q14 => tel q14.1 (fun e15 => xth e15 q14.2) fun x16 =>
      (ztg q14.2 8 v0).bind fun b17 =>
      bdU (rc 0 (some b17) 0 q14.2) fun q18 => tel q18.1 (fun e19 => xth e19 q18.2) fun x20 =>
      (ztg q18.2 8 v0).bind fun b21 =>
      bdU (f7_want G (some b21) 41 q18.2) fun q22 => tel q22.1 (fun e23 => xth e23 q22.2) fun x24 =>
      (gfI q22.2 8 287 v0).bind fun x25 =>
      (pfI G.2.2.2.1 q22.2 8 287 v0 (x25 - 1)).bind fun u26 =>
      some ((.inr x20, u26), 0, 0)
  else
    (ztg u 8 v0).bind fun b28 =>
    bdU (f7_node G (some b28) u) fun q29 => tel q29.1 (fun e30 => xth e30 q29.2) fun x31 =>
    (ztg q29.2 8 v0).bind fun b32 =>
    bdU (f7_deeper G (some b32) q29.2) fun q33 => tel q33.1 (fun e34 => xth e34 q33.2) fun x35 =>
    (ztg q33.2 8 v0).bind fun b36 =>
    bdU (rc 2 (some b36) 0 q33.2) fun q37 => tel q37.1 (fun e38 => xth e38 q37.2) fun x39 =>
    (gfI q37.2 8 287 v0).bind fun x40 =>
    (pfI G.2.2.2.1 q37.2 8 287 v0 (x40 - 1)).bind fun u41 =>
    bdU (zNew u41 12 1) fun q42 =>
    (f11_init G (some q42.1) x39 q42.2).bind fun u43 =>
    some ((.inr (some q42.1), u43), 0, 0)
noncomputable def f15_init (G : CG) (v0 : Option Nat) (v1 : Int) (u : Sg) : Option ((Sg) × Nat × Nat) :=
  v0.bind fun b1 =>
  (f10_init G (some b1) u).bind fun u2 =>
  bdU (zNew u2 6 3) fun q3 =>
  (fJ2_init G (some q3.1) q3.2).bind fun u4 =>
  (pfR G.2.2.2.1 u4 16 601 (some b1) (some q3.1)).bind fun u5 =>
  if w32 v1 = 0 ∨ w32 v1 = 1 then
    (pfI G.2.2.2.1 u5 16 600 (some b1) v1).bind fun u6 =>
    some (u6, 0, 0)
  else none
noncomputable def f7_many_b100 (G : CG) (rc : RC7) (kh : Sg → Option (((Nat × Sg) ⊕ (Sg)) × Nat × Nat)) (v0 : Option Nat) (v1 : Int) (v3 : Int) (v5 : Option Nat) (s0 : Option Nat) (s1 : Option Nat) (u : Sg) : Option (((Nat × Sg) ⊕ (Sg)) × Nat × Nat) :=
  (ztg u 6 s0).bind fun b1 =>
  bdU (fJ2_add G (some b1) s1 u) fun q2 =>
  kh q2.2
noncomputable def f7_many_l63 (G : CG) (rc : RC7) (v0 : Option Nat) (v1 : Int) (v3 : Int) (v5 : Option Nat) : Nat → Sg → Option (((Nat × Sg) ⊕ (Sg)) × Nat × Nat)
  | 0, _ => none
  | n + 1, u =>
    (ztg u 8 v0).bind fun b1 =>
    (f7_is G (some b1) v3 u).bind fun x2 =>
    if (w32 x2) = 0 then
      some ((.inr u), 0, 0)
    else
      (ztg u 8 v0).bind fun b3 =>
      bdU (f7_node G (some b3) u) fun q4 => tel q4.1 (fun e5 => some (.inl (e5, q4.2), 0, 0)) fun x6 =>
      (ztg q4.2 8 v0).bind fun b7 =>
      bdU (f7_next G (some b7) q4.2) fun q8 => tel q8.1 (fun e9 => some (.inl (e9, q8.2), 0, 0)) fun x10 =>
      (gfR q8.2 16 601 v5).bind fun x11 =>
      if (w32 v1) = 0 then
        (ztg q8.2 8 v0).bind fun b12 =>
        bdU (rc 2 (some b12) 0 q8.2) fun q13 => tel q13.1 (fun e14 => some (.inl (e14, q13.2), 0, 0)) fun x15 =>
        f7_many_b100 G rc (f7_many_l63 G rc v0 v1 v3 v5 n) v0 v1 v3 v5 x11 x15 q13.2
      else
        (ztg q8.2 8 v0).bind fun b16 =>
        bdU (rc 1 (some b16) 0 q8.2) fun q17 => tel q17.1 (fun e18 => some (.inl (e18, q17.2), 0, 0)) fun x19 =>
        f7_many_b100 G rc (f7_many_l63 G rc v0 v1 v3 v5 n) v0 v1 v3 v5 x11 x19 q17.2
noncomputable def f7_many_b30 (G : CG) (rc : RC7) (v0 : Option Nat) (v1 : Int) (v2 : Option Nat) (s0 : Int) (u : Sg) : Option (((Nat ⊕ (Option Nat)) × Sg) × Nat × Nat) :=
  (ztg u 8 v0).bind fun b1 =>
  (f7_is G (some b1) s0 u).bind fun x2 =>
  if (w32 x2) = 0 then
    some ((.inr v2, u), 0, 0)
  else
    bdU (zNew u 16 2) fun q3 =>
    bdU (f15_init G (some q3.1) v1 q3.2) fun q4 =>
    (gfR q4 16 601 (some q3.1)).bind fun x5 =>
    (ztg q4 6 x5).bind fun b6 =>
    bdU (fJ2_add G (some b6) v2 q4) fun q7 =>
    bdU (f7_many_l63 G rc v0 v1 s0 (some q3.1) NN q7.2)
      (Sum.elim (fun e9 => xth e9.1 e9.2)
        (fun q8 =>
          some ((.inr (some q3.1), q8), 0, 0)))
noncomputable def f7_many_b16 (G : CG) (rc : RC7) (v0 : Option Nat) (v1 : Int) (s0 : Option Nat) (u : Sg) : Option (((Nat ⊕ (Option Nat)) × Sg) × Nat × Nat) :=
  if (w32 v1) = 0 then
    f7_many_b30 G rc v0 v1 s0 6385252 u
  else
    f7_many_b30 G rc v0 v1 s0 28530 u
noncomputable def f7_many (G : CG)  (rc : RC7) (v0 : Option Nat) (v1 : Int) (u : Sg) : Option (((Nat ⊕ (Option Nat)) × Sg) × Nat × Nat) :=
  if (w32 v1) = 0 then
    (ztg u 8 v0).bind fun b1 =>
    bdU (rc 2 (some b1) 0 u) fun q2 => tel q2.1 (fun e3 => xth e3 q2.2) fun x4 =>
    f7_many_b16 G rc v0 v1 x4 q2.2
  else
    (ztg u 8 v0).bind fun b5 =>
    bdU (rc 1 (some b5) 0 u) fun q6 => tel q6.1 (fun e7 => xth e7 q6.2) fun x8 =>
    f7_many_b16 G rc v0 v1 x8 q6.2
noncomputable def f7_cond (G : CG)  (rc : RC7) (v0 : Option Nat) (u : Sg) : Option (((Nat ⊕ (Option Nat)) × Sg) × Nat × Nat) :=
  (ztg u 8 v0).bind fun b1 =>
  bdU (rc 1 (some b1) 1 u) fun q2 => tel q2.1 (fun e3 => xth e3 q2.2) fun x4 =>
  some ((.inr x4, q2.2), 0, 0)
noncomputable def kr (G : CG) : Nat → RC7
  | 0 => fun _ _ _ _ => none
  | d + 1 => fun k r y u => if k = 0 then f7_cond G (kr G d) r u else if k = 1 then f7_many G (kr G d) r y u else f7_part G (kr G d) r u
noncomputable def f7_clause_b29 (G : CG) (v0 : Option Nat) (s0 : Int) (u : Sg) : Option (((Nat ⊕ (Option Nat)) × Sg) × Nat × Nat) :=
  (ztg u 8 v0).bind fun b1 =>
  bdU (f7_next G (some b1) u) fun q2 => tel q2.1 (fun e3 => xth e3 q2.2) fun x4 =>
  (gfI q2.2 8 288 v0).bind fun x5 =>
  (ztg q2.2 8 v0).bind fun b6 =>
  bdU (kr G 100 0 (some b6) 0 q2.2) fun q7 => tel q7.1 (fun e8 => xth e8 q7.2) fun x9 =>
  (ztg q7.2 8 v0).bind fun b10 =>
  bdU (f7_want G (some b10) 59 q7.2) fun q11 => tel q11.1 (fun e12 => xth e12 q11.2) fun x13 =>
  bdU (zNew q11.2 17 3) fun q14 =>
  (gfI q14.2 8 288 v0).bind fun x15 =>
  (f16_init G (some q14.1) s0 x9 (x15 - x5) q14.2).bind fun u16 =>
  some ((.inr (some q14.1), u16), 0, 0)
noncomputable def f7_clause (G : CG) (v0 : Option Nat) (u : Sg) : Option (((Nat ⊕ (Option Nat)) × Sg) × Nat × Nat) :=
  (ztg u 8 v0).bind fun b1 =>
  (f7_is G (some b1) 427071792498 u).bind fun x2 =>
  if (w32 x2) = 0 then
    (ztg u 8 v0).bind fun b3 =>
    (f7_is G (some b3) 465557354085 u).bind fun x4 =>
    if (w32 x4) = 0 then
      f7_clause_b29 G v0 2 u
    else
      f7_clause_b29 G v0 1 u
  else
    f7_clause_b29 G v0 0 u
noncomputable def f9_init (G : CG) (v0 : Option Nat) (v1 : Int) (v3 : Int) (u : Sg) : Option ((Sg) × Nat × Nat) :=
  v0.bind fun b1 =>
  bdU (zNewA u 4 6) fun q2 =>
  (pfR G.2.2.2.1 q2.2 10 362 (some b1) (some q2.1)).bind fun u3 =>
  (pfI G.2.2.2.1 u3 10 360 (some b1) v1).bind fun u4 =>
  (pfI G.2.2.2.1 u4 10 361 (some b1) v3).bind fun u5 =>
  if (w32 v3) = 0 then
    (pfI G.2.2.2.1 u5 10 365 (some b1) 1).bind fun u7 =>
    some (u7, 0, 0)
  else
    (pfI G.2.2.2.1 u5 10 365 (some b1) 0).bind fun u6 =>
    some (u6, 0, 0)
noncomputable def f7_choices_l0 (G : CG) (v0 : Option Nat) (v1 : Option Nat) : Nat → Sg → Option (((Nat × Sg) ⊕ ((Sg) ⊕ (Sg) ⊕ (Sg))) × Nat × Nat)
  | 0, _ => none
  | n + 1, u =>
    (ztg u 8 v0).bind fun b1 =>
    bdU (f7_next G (some b1) u) fun q2 => tel q2.1 (fun e3 => some (.inl (e3, q2.2), 0, 0)) fun x4 =>
    (ztg q2.2 8 v0).bind fun b5 =>
    bdU (f7_wantKind G (some b5) 1 q2.2) fun q6 => tel q6.1 (fun e7 => some (.inl (e7, q6.2), 0, 0)) fun x8 =>
    (gfI q6.2 8 283 v0).bind fun x9 =>
    (ztg q6.2 10 v1).bind fun b10 =>
    (f9_choice G (some b10) x9 q6.2).bind fun x11 =>
    if (w32 x11) < 0 then
      (gfI q6.2 10 363 v1).bind fun x12 =>
      if (w32 x12) = 6 then
        some ((.inr (.inr (.inl q6.2))), 0, 0)
      else
        (gfR q6.2 10 362 v1).bind fun x13 =>
        (gfI q6.2 10 363 v1).bind fun x14 =>
        (pfI G.2.2.2.1 q6.2 10 363 v1 (x14 + 1)).bind fun u15 =>
        (gfI u15 8 283 v0).bind fun x16 =>
        (asI G.2.2.2.1 u15 4 x13 x14 x16).bind fun u17 =>
        (gfI u17 10 363 v1).bind fun x18 =>
        (pfI G.2.2.2.1 u17 10 365 v1 (x18 - 1)).bind fun u19 =>
        (ztg u19 8 v0).bind fun b20 =>
        bdU (f7_next G (some b20) u19) fun q21 => tel q21.1 (fun e22 => some (.inl (e22, q21.2), 0, 0)) fun x23 =>
        (ztg q21.2 8 v0).bind fun b24 =>
        (f7_isSign G (some b24) 44 q21.2).bind fun x25 =>
        if (w32 x25) = 0 then
          some ((.inr (.inr (.inr q21.2))), 0, 0)
        else
          f7_choices_l0 G v0 v1 n q21.2
    else
      some ((.inr (.inl q6.2)), 0, 0)
noncomputable def f7_choices (G : CG) (v0 : Option Nat) (v1 : Option Nat) (u : Sg) : Option (((Nat ⊕ (Unit)) × Sg) × Nat × Nat) :=
  bdU (f7_choices_l0 G v0 v1 NN u)
    (Sum.elim (fun e15 => xth e15.1 e15.2)
      (Sum.elim
        (fun q1 =>
          bdU (zNew q1 9 8) fun q2 =>
          (gfI q2.2 8 282 v0).bind fun x3 =>
          (f8_init G (some q2.1) 3 x3 q2.2).bind fun u4 =>
          xth q2.1 u4)
        (Sum.elim
          (fun q5 =>
            bdU (zNew q5 9 8) fun q6 =>
            (gfI q6.2 8 282 v0).bind fun x7 =>
            (f8_init G (some q6.1) 6 x7 q6.2).bind fun u8 =>
            xth q6.1 u8)
          (fun q9 =>
            (gfI q9 10 363 v1).bind fun x10 =>
            if 2 ≤ (w32 x10) then
              some ((.inr (), q9), 0, 0)
            else
              bdU (zNew q9 9 8) fun q11 =>
              (gfI q11.2 8 282 v0).bind fun x12 =>
              (f8_init G (some q11.1) 2 x12 q11.2).bind fun u13 =>
              xth q11.1 u13))))
noncomputable def f7_newName_b33 (G : CG) (v0 : Option Nat) (u : Sg) : Option (((Nat ⊕ (Int)) × Sg) × Nat × Nat) :=
  bdU (zNew u 9 8) fun q1 =>
  (gfI q1.2 8 282 v0).bind fun x2 =>
  (f8_init G (some q1.1) 3 x2 q1.2).bind fun u3 =>
  xth q1.1 u3
noncomputable def f7_newName (G : CG) (v0 : Option Nat) (u : Sg) : Option (((Nat ⊕ (Int)) × Sg) × Nat × Nat) :=
  (ztg u 8 v0).bind fun b1 =>
  bdU (f7_wantKind G (some b1) 1 u) fun q2 => tel q2.1 (fun e3 => xth e3 q2.2) fun x4 =>
  (gfR q2.2 8 286 v0).bind fun x5 =>
  (gfI q2.2 8 283 v0).bind fun x6 =>
  (ztg q2.2 7 x5).bind fun b7 =>
  (f6_fact G (some b7) x6 q2.2).bind fun x8 =>
  if 0 ≤ (w32 x8) then
    f7_newName_b33 G v0 q2.2
  else
    (gfR q2.2 8 286 v0).bind fun x9 =>
    (gfI q2.2 8 283 v0).bind fun x10 =>
    (ztg q2.2 7 x9).bind fun b11 =>
    (f6_meaning G (some b11) x10 q2.2).bind fun x12 =>
    if (w32 x12) < 0 then
      (gfI q2.2 8 283 v0).bind fun x13 =>
      some ((.inr x13, q2.2), 0, 0)
    else
      f7_newName_b33 G v0 q2.2
noncomputable def f7_fact_b193 (G : CG) (v0 : Option Nat) (v3 : Option Nat) (u : Sg) : Option (((Nat ⊕ (Unit)) × Sg) × Nat × Nat) :=
  (ztg u 8 v0).bind fun b1 =>
  bdU (f7_want G (some b1) 59 u) fun q2 => tel q2.1 (fun e3 => xth e3 q2.2) fun x4 =>
  (gfR q2.2 8 286 v0).bind fun x5 =>
  (gfR q2.2 7 240 x5).bind fun x6 =>
  (ztg q2.2 6 x6).bind fun b7 =>
  bdU (fJ2_add G (some b7) v3 q2.2) fun q8 =>
  some ((.inr (), q8.2), 0, 0)
noncomputable def f7_fact (G : CG) (v0 : Option Nat) (u : Sg) : Option (((Nat ⊕ (Unit)) × Sg) × Nat × Nat) :=
  (ztg u 8 v0).bind fun b1 =>
  bdU (f7_next G (some b1) u) fun q2 => tel q2.1 (fun e3 => xth e3 q2.2) fun x4 =>
  (ztg q2.2 8 v0).bind fun b5 =>
  bdU (f7_newName G (some b5) q2.2) fun q6 => tel q6.1 (fun e7 => xth e7 q6.2) fun x8 =>
  (gfR q6.2 8 286 v0).bind fun x9 =>
  (gfR q6.2 7 240 x9).bind fun x10 =>
  (ztg q6.2 6 x10).bind fun b11 =>
  (fJ2_size G (some b11) q6.2).bind fun x12 =>
  if (w32 x12) = 8 then
    bdU (zNew q6.2 9 8) fun q68 =>
    (gfI q68.2 8 282 v0).bind fun x69 =>
    (f8_init G (some q68.1) 6 x69 q68.2).bind fun u70 =>
    xth q68.1 u70
  else
    (ztg q6.2 8 v0).bind fun b13 =>
    bdU (f7_next G (some b13) q6.2) fun q14 => tel q14.1 (fun e15 => xth e15 q14.2) fun x16 =>
    (ztg q14.2 8 v0).bind fun b17 =>
    (f7_is G (some b17) 7955827 q14.2).bind fun x18 =>
    if (w32 x18) = 0 then
      (ztg q14.2 8 v0).bind fun b19 =>
      (f7_is G (some b19) 7302757 q14.2).bind fun x20 =>
      if (w32 x20) = 0 then
        (ztg q14.2 8 v0).bind fun b21 =>
        (f7_is G (some b21) 1718775661 q14.2).bind fun x22 =>
        if (w32 x22) = 0 then
          bdU (zNew q14.2 9 8) fun q23 =>
          (gfI q23.2 8 282 v0).bind fun x24 =>
          (f8_init G (some q23.1) 2 x24 q23.2).bind fun u25 =>
          xth q23.1 u25
        else
          bdU (zNew q14.2 10 6) fun q26 =>
          bdU (f9_init G (some q26.1) x8 2 q26.2) fun q27 =>
          (ztg q27 8 v0).bind fun b28 =>
          bdU (f7_next G (some b28) q27) fun q29 => tel q29.1 (fun e30 => xth e30 q29.2) fun x31 =>
          (ztg q29.2 8 v0).bind fun b32 =>
          bdU (f7_number G (some b32) 0 999999999 q29.2) fun q33 => tel q33.1 (fun e34 => xth e34 q33.2) fun x35 =>
          (pfI G.2.2.2.1 q33.2 10 364 (some q26.1) x35).bind fun u36 =>
          (ztg u36 8 v0).bind fun b37 =>
          (f7_is G (some b37) 29807 u36).bind fun x38 =>
          if (w32 x38) = 0 then
            bdU (zNew u36 9 8) fun q49 =>
            (gfI q49.2 8 282 v0).bind fun x50 =>
            (f8_init G (some q49.1) 2 x50 q49.2).bind fun u51 =>
            xth q49.1 u51
          else
            (ztg u36 8 v0).bind fun b39 =>
            bdU (f7_next G (some b39) u36) fun q40 => tel q40.1 (fun e41 => xth e41 q40.2) fun x42 =>
            (gfI q40.2 10 364 (some q26.1)).bind fun x43 =>
            (ztg q40.2 8 v0).bind fun b44 =>
            bdU (f7_number G (some b44) (x43 + 1) 999999999 q40.2) fun q45 => tel q45.1 (fun e46 => xth e46 q45.2) fun x47 =>
            (pfI G.2.2.2.1 q45.2 10 365 (some q26.1) x47).bind fun u48 =>
            f7_fact_b193 G v0 (some q26.1) u48
      else
        bdU (zNew q14.2 10 6) fun q54 =>
        bdU (f9_init G (some q54.1) x8 1 q54.2) fun q55 =>
        (ztg q55 8 v0).bind fun b56 =>
        bdU (f7_choices G (some b56) (some q54.1) q55) fun q57 => tel q57.1 (fun e58 => xth e58 q57.2) fun x59 =>
        f7_fact_b193 G v0 (some q54.1) q57.2
    else
      bdU (zNew q14.2 10 6) fun q61 =>
      bdU (f9_init G (some q61.1) x8 0 q61.2) fun q62 =>
      (ztg q62 8 v0).bind fun b63 =>
      bdU (f7_next G (some b63) q62) fun q64 => tel q64.1 (fun e65 => xth e65 q64.2) fun x66 =>
      f7_fact_b193 G v0 (some q61.1) q64.2
noncomputable def f7_isClause (G : CG) (v0 : Option Nat) (u : Sg) : Option (Int) :=
  (ztg u 8 v0).bind fun b1 =>
  (f7_is G (some b1) 427071792498 u).bind fun x2 =>
  if (w32 x2) = 0 then
    (ztg u 8 v0).bind fun b3 =>
    (f7_is G (some b3) 465557354085 u).bind fun x4 =>
    if (w32 x4) = 0 then
      (ztg u 8 v0).bind fun b5 =>
      (f7_is G (some b5) 1650549611 u).bind fun x6 =>
      if (w32 x6) = 0 then
        some 0
      else
        some 1
    else
      some 1
  else
    some 1
noncomputable def f7_meaning (G : CG) (v0 : Option Nat) (u : Sg) : Option (((Nat ⊕ (Unit)) × Sg) × Nat × Nat) :=
  (ztg u 8 v0).bind fun b1 =>
  bdU (f7_next G (some b1) u) fun q2 => tel q2.1 (fun e3 => xth e3 q2.2) fun x4 =>
  (ztg q2.2 8 v0).bind fun b5 =>
  bdU (f7_newName G (some b5) q2.2) fun q6 => tel q6.1 (fun e7 => xth e7 q6.2) fun x8 =>
  (gfR q6.2 8 286 v0).bind fun x9 =>
  (gfR q6.2 7 242 x9).bind fun x10 =>
  (ztg q6.2 6 x10).bind fun b11 =>
  (fJ2_size G (some b11) q6.2).bind fun x12 =>
  if (w32 x12) = 12 then
    bdU (zNew q6.2 9 8) fun q43 =>
    (gfI q43.2 8 282 v0).bind fun x44 =>
    (f8_init G (some q43.1) 6 x44 q43.2).bind fun u45 =>
    xth q43.1 u45
  else
    (ztg q6.2 8 v0).bind fun b13 =>
    bdU (f7_next G (some b13) q6.2) fun q14 => tel q14.1 (fun e15 => xth e15 q14.2) fun x16 =>
    (ztg q14.2 8 v0).bind fun b17 =>
    bdU (f7_want G (some b17) 61 q14.2) fun q18 => tel q18.1 (fun e19 => xth e19 q18.2) fun x20 =>
    (gfI q18.2 8 288 v0).bind fun x21 =>
    (ztg q18.2 8 v0).bind fun b22 =>
    bdU (kr G 100 0 (some b22) 0 q18.2) fun q23 => tel q23.1 (fun e24 => xth e24 q23.2) fun x25 =>
    (ztg q23.2 8 v0).bind fun b26 =>
    bdU (f7_want G (some b26) 59 q23.2) fun q27 => tel q27.1 (fun e28 => xth e28 q27.2) fun x29 =>
    (gfR q27.2 8 286 v0).bind fun x30 =>
    (gfI q27.2 7 248 x30).bind fun x31 =>
    (gfI q27.2 8 288 v0).bind fun x32 =>
    (pfI G.2.2.2.1 q27.2 7 248 x30 (x31 + (x32 - x21))).bind fun u33 =>
    (gfR u33 8 286 v0).bind fun x34 =>
    (gfR u33 7 241 x34).bind fun x35 =>
    bdU (fJ15_valueOf G x8 u33) fun q36 =>
    (ztg q36.2 6 x35).bind fun b37 =>
    bdU (fJ2_add G (some b37) q36.1 q36.2) fun q38 =>
    (gfR q38.2 8 286 v0).bind fun x39 =>
    (gfR q38.2 7 242 x39).bind fun x40 =>
    (ztg q38.2 6 x40).bind fun b41 =>
    bdU (fJ2_add G (some b41) x25 q38.2) fun q42 =>
    some ((.inr (), q42.2), 0, 0)
noncomputable def f7_most_b56 (G : CG) (v0 : Option Nat) (v1 : Int) (s0 : Int) (u : Sg) : Option (((Nat ⊕ (Unit)) × Sg) × Nat × Nat) :=
  if 0 ≤ (w32 s0) then
    (gfR u 8 286 v0).bind fun x1 =>
    (gfR u 7 247 x1).bind fun x2 =>
    (alI u 1 x2 s0).bind fun x3 =>
    if (w32 x3) < 0 then
      (ztg u 8 v0).bind fun b4 =>
      bdU (f7_next G (some b4) u) fun q5 => tel q5.1 (fun e6 => xth e6 q5.2) fun x7 =>
      (ztg q5.2 8 v0).bind fun b8 =>
      bdU (f7_want G (some b8) 59 q5.2) fun q9 => tel q9.1 (fun e10 => xth e10 q9.2) fun x11 =>
      (gfR q9.2 8 286 v0).bind fun x12 =>
      (gfR q9.2 7 247 x12).bind fun x13 =>
      (asI G.2.2.2.1 q9.2 1 x13 s0 v1).bind fun u14 =>
      some ((.inr (), u14), 0, 0)
    else
      bdU (zNew u 9 8) fun q15 =>
      (gfI q15.2 8 282 v0).bind fun x16 =>
      (f8_init G (some q15.1) 6 x16 q15.2).bind fun u17 =>
      xth q15.1 u17
  else
    bdU (zNew u 9 8) fun q19 =>
    (gfI q19.2 8 282 v0).bind fun x20 =>
    (f8_init G (some q19.1) 2 x20 q19.2).bind fun u21 =>
    xth q19.1 u21
noncomputable def f7_most (G : CG) (v0 : Option Nat) (u : Sg) : Option (((Nat ⊕ (Unit)) × Sg) × Nat × Nat) :=
  (ztg u 8 v0).bind fun b1 =>
  bdU (f7_next G (some b1) u) fun q2 => tel q2.1 (fun e3 => xth e3 q2.2) fun x4 =>
  (ztg q2.2 8 v0).bind fun b5 =>
  bdU (f7_number G (some b5) 0 99999999 q2.2) fun q6 => tel q6.1 (fun e7 => xth e7 q6.2) fun x8 =>
  (ztg q6.2 8 v0).bind fun b9 =>
  (f7_is G (some b9) 435778055796 q6.2).bind fun x10 =>
  if (w32 x10) = 0 then
    (ztg q6.2 8 v0).bind fun b11 =>
    (f7_is G (some b11) 2036687218 q6.2).bind fun x12 =>
    if (w32 x12) = 0 then
      (ztg q6.2 8 v0).bind fun b13 =>
      (f7_is G (some b13) 6384748 q6.2).bind fun x14 =>
      if (w32 x14) = 0 then
        f7_most_b56 G v0 x8 (-1) q6.2
      else
        f7_most_b56 G v0 x8 2 q6.2
    else
      f7_most_b56 G v0 x8 1 q6.2
  else
    f7_most_b56 G v0 x8 0 q6.2
noncomputable def f7_priceKind (G : CG) (v0 : Option Nat) (u : Sg) : Option (Int) :=
  (ztg u 8 v0).bind fun b1 =>
  (f7_is G (some b1) 1918989413 u).bind fun x2 =>
  if (w32 x2) = 0 then
    (ztg u 8 v0).bind fun b3 =>
    (f7_is G (some b3) 499984983411 u).bind fun x4 =>
    if (w32 x4) = 0 then
      (ztg u 8 v0).bind fun b5 =>
      (f7_is G (some b5) 1886156147 u).bind fun x6 =>
      if (w32 x6) = 0 then
        (ztg u 8 v0).bind fun b7 =>
        (f7_is G (some b7) 491496238692 u).bind fun x8 =>
        if (w32 x8) = 0 then
          (ztg u 8 v0).bind fun b9 =>
          (f7_is G (some b9) 465557353332 u).bind fun x10 =>
          if (w32 x10) = 0 then
            some (-1)
          else
            some 4
        else
          some 3
      else
        some 2
    else
      some 1
  else
    some 0
noncomputable def f17_init (G : CG) (v0 : Option Nat) (v1 : Int) (v2 : Int) (v3 : Option Nat) (u : Sg) : Option (Sg) :=
  v0.bind fun b1 =>
  (pfI G.2.2.2.1 u 18 680 (some b1) v1).bind fun u2 =>
  (pfI G.2.2.2.1 u2 18 681 (some b1) v2).bind fun u3 =>
  (pfR G.2.2.2.1 u3 18 682 (some b1) v3).bind fun u4 =>
  some u4
noncomputable def f7_timesBehind_b73 (G : CG) (kh : Int → Int → Option (Int)) (v0 : Option Nat) (v2 : Int) (s0 : Int) (s1 : Int) (u : Sg) : Option (Int) :=
  kh (s0 + s1) (v2 + (-1))
noncomputable def f7_timesBehind_l17 (G : CG) (v0 : Option Nat) (u : Sg) : Nat → Int → Int → Option (Int)
  | 0, _, _ => none
  | n + 1, v1, v2 =>
    if (w32 v2) < 0 then
      some v1
    else
      (gfR u 8 286 v0).bind fun x1 =>
      (gfR u 7 244 x1).bind fun x2 =>
      (ztg u 6 x2).bind fun b3 =>
      (fJ2_get G (some b3) v2 u).bind fun x4 =>
      (zcast u [18] x4).bind fun y5 =>
      (gfI u 18 680 x4).bind fun x6 =>
      if (w32 x6) = 3 then
        some v1
      else
        (gfR u 8 286 v0).bind fun x7 =>
        (gfR u 7 244 x7).bind fun x8 =>
        (ztg u 6 x8).bind fun b9 =>
        (fJ2_get G (some b9) v2 u).bind fun x10 =>
        (zcast u [18] x10).bind fun y11 =>
        (gfI u 18 680 x10).bind fun x12 =>
        if (w32 x12) = 1 then
          f7_timesBehind_b73 G (f7_timesBehind_l17 G v0 u n) v0 v2 v1 1 u
        else
          f7_timesBehind_b73 G (f7_timesBehind_l17 G v0 u n) v0 v2 v1 0 u
noncomputable def f7_timesBehind (G : CG) (v0 : Option Nat) (u : Sg) : Option (Int) :=
  (gfR u 8 286 v0).bind fun x1 =>
  (gfR u 7 244 x1).bind fun x2 =>
  (ztg u 6 x2).bind fun b3 =>
  (fJ2_size G (some b3) u).bind fun x4 =>
  (f7_timesBehind_l17 G v0 u NN 0 (x4 - 1)).bind fun q5 =>
  some q5
noncomputable def f7_priceRow_b30 (G : CG) (v0 : Option Nat) (u : Sg) : Option (((Nat ⊕ (Unit)) × Sg) × Nat × Nat) :=
  bdU (zNew u 9 8) fun q1 =>
  (gfI q1.2 8 282 v0).bind fun x2 =>
  (f8_init G (some q1.1) 6 x2 q1.2).bind fun u3 =>
  xth q1.1 u3
noncomputable def f7_priceRow_b144 (G : CG) (v0 : Option Nat) (v1 : Int) (v2 : Int) (v3 : Option Nat) (u : Sg) : Option (((Nat ⊕ (Unit)) × Sg) × Nat × Nat) :=
  (ztg u 8 v0).bind fun b1 =>
  bdU (f7_want G (some b1) 59 u) fun q2 => tel q2.1 (fun e3 => xth e3 q2.2) fun x4 =>
  (gfR q2.2 8 286 v0).bind fun x5 =>
  (gfR q2.2 7 244 x5).bind fun x6 =>
  bdU (zNew q2.2 18 3) fun q7 =>
  (f17_init G (some q7.1) v1 v2 v3 q7.2).bind fun u8 =>
  (ztg u8 6 x6).bind fun b9 =>
  bdU (fJ2_add G (some b9) (some q7.1) u8) fun q10 =>
  some ((.inr (), q10.2), 0, 0)
noncomputable def f7_priceRow_b100 (G : CG) (v0 : Option Nat) (v1 : Int) (v2 : Int) (v3 : Option Nat) (u : Sg) : Option (((Nat ⊕ (Unit)) × Sg) × Nat × Nat) :=
  (ztg u 8 v0).bind fun b1 =>
  (f7_is G (some b1) 26982 u).bind fun x2 =>
  if (w32 x2) = 0 then
    f7_priceRow_b144 G v0 v1 v2 v3 u
  else
    (ztg u 8 v0).bind fun b3 =>
    bdU (f7_next G (some b3) u) fun q4 => tel q4.1 (fun e5 => xth e5 q4.2) fun x6 =>
    (gfI q4.2 8 288 v0).bind fun x7 =>
    (ztg q4.2 8 v0).bind fun b8 =>
    bdU (kr G 100 0 (some b8) 0 q4.2) fun q9 => tel q9.1 (fun e10 => xth e10 q9.2) fun x11 =>
    (gfR q9.2 8 286 v0).bind fun x12 =>
    (gfI q9.2 7 248 x12).bind fun x13 =>
    (gfI q9.2 8 288 v0).bind fun x14 =>
    (pfI G.2.2.2.1 q9.2 7 248 x12 (x13 + (x14 - x7))).bind fun u15 =>
    f7_priceRow_b144 G v0 v1 v2 x11 u15
noncomputable def f7_priceRow_b84 (G : CG) (v0 : Option Nat) (v1 : Int) (s0 : Option Nat) (s1 : Int) (s2 : Int) (u : Sg) : Option (((Nat ⊕ (Unit)) × Sg) × Nat × Nat) :=
  (ztg u 8 s0).bind fun b1 =>
  bdU (f7_number G (some b1) s1 s2 u) fun q2 => tel q2.1 (fun e3 => xth e3 q2.2) fun x4 =>
  if (w32 v1) = 1 then
    f7_priceRow_b100 G v0 v1 x4 none q2.2
  else
    if (w32 v1) = 2 then
      f7_priceRow_b100 G v0 v1 x4 none q2.2
    else
      f7_priceRow_b144 G v0 v1 x4 none q2.2
noncomputable def f7_priceRow_b59 (G : CG) (v0 : Option Nat) (v1 : Int) (s0 : Option Nat) (s1 : Int) (u : Sg) : Option (((Nat ⊕ (Unit)) × Sg) × Nat × Nat) :=
  if (w32 v1) = 1 then
    f7_priceRow_b84 G v0 v1 s0 s1 3000 u
  else
    if (w32 v1) = 3 then
      f7_priceRow_b84 G v0 v1 s0 s1 100000 u
    else
      f7_priceRow_b84 G v0 v1 s0 s1 9999999 u
noncomputable def f7_priceRow_b44 (G : CG) (v0 : Option Nat) (v1 : Int) (u : Sg) : Option (((Nat ⊕ (Unit)) × Sg) × Nat × Nat) :=
  (ztg u 8 v0).bind fun b1 =>
  bdU (f7_next G (some b1) u) fun q2 => tel q2.1 (fun e3 => xth e3 q2.2) fun x4 =>
  if (w32 v1) = 3 then
    f7_priceRow_b59 G v0 v1 v0 1 q2.2
  else
    f7_priceRow_b59 G v0 v1 v0 0 q2.2
noncomputable def f7_priceRow (G : CG) (v0 : Option Nat) (v1 : Int) (u : Sg) : Option (((Nat ⊕ (Unit)) × Sg) × Nat × Nat) :=
  (gfR u 8 286 v0).bind fun x1 =>
  (gfR u 7 244 x1).bind fun x2 =>
  (ztg u 6 x2).bind fun b3 =>
  (fJ2_size G (some b3) u).bind fun x4 =>
  if (w32 x4) = 24 then
    f7_priceRow_b30 G v0 u
  else
    if (w32 v1) = 1 then
      (ztg u 8 v0).bind fun b5 =>
      (f7_timesBehind G (some b5) u).bind fun x6 =>
      if (w32 x6) = 3 then
        f7_priceRow_b30 G v0 u
      else
        f7_priceRow_b44 G v0 v1 u
    else
      f7_priceRow_b44 G v0 v1 u
noncomputable def f7_sum (G : CG) (v0 : Option Nat) (v1 : Int) (v2 : Int) (u : Sg) : Option (((Nat ⊕ (Int)) × Sg) × Nat × Nat) :=
  if (w32 v1) < 0 then
    (ztg u 8 v0).bind fun b1 =>
    bdU (f7_next G (some b1) u) fun q2 => tel q2.1 (fun e3 => xth e3 q2.2) fun x4 =>
    (ztg q2.2 8 v0).bind fun b5 =>
    bdU (f7_number G (some b5) 0 v2 q2.2) fun q6 => tel q6.1 (fun e7 => xth e7 q6.2) fun x8 =>
    (ztg q6.2 8 v0).bind fun b9 =>
    bdU (f7_want G (some b9) 59 q6.2) fun q10 => tel q10.1 (fun e11 => xth e11 q10.2) fun x12 =>
    some ((.inr x8, q10.2), 0, 0)
  else
    bdU (zNew u 9 8) fun q13 =>
    (gfI q13.2 8 282 v0).bind fun x14 =>
    (f8_init G (some q13.1) 6 x14 q13.2).bind fun u15 =>
    xth q13.1 u15
noncomputable def f7_item_b193 (G : CG) (v0 : Option Nat) (s0 : Int) (u : Sg) : Option (((Nat ⊕ (Unit)) × Sg) × Nat × Nat) :=
  if 0 ≤ (w32 s0) then
    (ztg u 8 v0).bind fun b1 =>
    bdU (f7_priceRow G (some b1) s0 u) fun q2 => tel q2.1 (fun e3 => xth e3 q2.2) fun x4 =>
    some ((.inr (), q2.2), 0, 0)
  else
    bdU (zNew u 9 8) fun q5 =>
    (gfI q5.2 8 282 v0).bind fun x6 =>
    (f8_init G (some q5.1) 2 x6 q5.2).bind fun u7 =>
    xth q5.1 u7
noncomputable def f7_item (G : CG) (v0 : Option Nat) (u : Sg) : Option (((Nat ⊕ (Unit)) × Sg) × Nat × Nat) :=
  (ztg u 8 v0).bind fun b1 =>
  (f7_is G (some b1) 1717658484 u).bind fun x2 =>
  if (w32 x2) = 0 then
    (ztg u 8 v0).bind fun b3 =>
    (f7_is G (some b3) 1835360622 u).bind fun x4 =>
    if (w32 x4) = 0 then
      (ztg u 8 v0).bind fun b5 =>
      (f7_isClause G (some b5) u).bind fun x6 =>
      if (w32 x6) = 0 then
        (ztg u 8 v0).bind fun b7 =>
        (f7_is G (some b7) 439855772532 u).bind fun x8 =>
        if (w32 x8) = 0 then
          (ztg u 8 v0).bind fun b9 =>
          (f7_is G (some b9) 495672455781 u).bind fun x10 =>
          if (w32 x10) = 0 then
            (ztg u 8 v0).bind fun b11 =>
            (f7_is G (some b11) 1836020596 u).bind fun x12 =>
            if (w32 x12) = 0 then
              (gfI u 8 281 v0).bind fun x13 =>
              if (w32 x13) = 4 then
                (ztg u 8 v0).bind fun b14 =>
                (f7_priceKind G (some b14) u).bind fun x15 =>
                f7_item_b193 G v0 x15 u
              else
                f7_item_b193 G v0 (-1) u
            else
              (ztg u 8 v0).bind fun b17 =>
              bdU (f7_most G (some b17) u) fun q18 => tel q18.1 (fun e19 => xth e19 q18.2) fun x20 =>
              some ((.inr (), q18.2), 0, 0)
          else
            (gfR u 8 286 v0).bind fun x22 =>
            (gfR u 8 286 v0).bind fun x23 =>
            (gfI u 7 246 x23).bind fun x24 =>
            (ztg u 8 v0).bind fun b25 =>
            bdU (f7_sum G (some b25) x24 1000 u) fun q26 => tel q26.1 (fun e27 => xth e27 q26.2) fun x28 =>
            (pfI G.2.2.2.1 q26.2 7 246 x22 x28).bind fun u29 =>
            some ((.inr (), u29), 0, 0)
        else
          (gfR u 8 286 v0).bind fun x31 =>
          (gfR u 8 286 v0).bind fun x32 =>
          (gfI u 7 245 x32).bind fun x33 =>
          (ztg u 8 v0).bind fun b34 =>
          bdU (f7_sum G (some b34) x33 99999999 u) fun q35 => tel q35.1 (fun e36 => xth e36 q35.2) fun x37 =>
          (pfI G.2.2.2.1 q35.2 7 245 x31 x37).bind fun u38 =>
          some ((.inr (), u38), 0, 0)
      else
        (gfR u 8 286 v0).bind fun x40 =>
        (gfR u 7 243 x40).bind fun x41 =>
        (ztg u 6 x41).bind fun b42 =>
        (fJ2_size G (some b42) u).bind fun x43 =>
        if (w32 x43) = 24 then
          bdU (zNew u 9 8) fun q52 =>
          (gfI q52.2 8 282 v0).bind fun x53 =>
          (f8_init G (some q52.1) 6 x53 q52.2).bind fun u54 =>
          xth q52.1 u54
        else
          (gfR u 8 286 v0).bind fun x44 =>
          (gfR u 7 243 x44).bind fun x45 =>
          (ztg u 8 v0).bind fun b46 =>
          bdU (f7_clause G (some b46) u) fun q47 => tel q47.1 (fun e48 => xth e48 q47.2) fun x49 =>
          (ztg q47.2 6 x45).bind fun b50 =>
          bdU (fJ2_add G (some b50) x49 q47.2) fun q51 =>
          some ((.inr (), q51.2), 0, 0)
    else
      (ztg u 8 v0).bind fun b57 =>
      bdU (f7_meaning G (some b57) u) fun q58 => tel q58.1 (fun e59 => xth e59 q58.2) fun x60 =>
      some ((.inr (), q58.2), 0, 0)
  else
    (ztg u 8 v0).bind fun b62 =>
    bdU (f7_fact G (some b62) u) fun q63 => tel q63.1 (fun e64 => xth e64 q63.2) fun x65 =>
    some ((.inr (), q63.2), 0, 0)
noncomputable def f7_wording_l0 (G : CG) (v0 : Option Nat) : Nat → Sg → Option (((Nat × Sg) ⊕ (Sg)) × Nat × Nat)
  | 0, _ => none
  | n + 1, u =>
    (gfI u 8 281 v0).bind fun x1 =>
    if (w32 x1) = 0 then
      some ((.inr u), 0, 0)
    else
      (ztg u 8 v0).bind fun b2 =>
      bdU (f7_item G (some b2) u) fun q3 => tel q3.1 (fun e4 => some (.inl (e4, q3.2), 0, 0)) fun x5 =>
      f7_wording_l0 G v0 n q3.2
noncomputable def f7_wording (G : CG) (v0 : Option Nat) (u : Sg) : Option (((Nat ⊕ (Unit)) × Sg) × Nat × Nat) :=
  bdU (f7_wording_l0 G v0 NN u)
    (Sum.elim (fun e2 => xth e2.1 e2.2)
      (fun q1 =>
        some ((.inr (), q1), 0, 0)))
noncomputable def f6_init (G : CG) (v0 : Option Nat) (u : Sg) : Option ((Sg) × Nat × Nat) :=
  v0.bind fun b1 =>
  bdU (zNew u 6 3) fun q2 =>
  (fJ2_init G (some q2.1) q2.2).bind fun u3 =>
  (pfR G.2.2.2.1 u3 7 240 (some b1) (some q2.1)).bind fun u4 =>
  bdU (zNew u4 6 3) fun q5 =>
  (fJ2_init G (some q5.1) q5.2).bind fun u6 =>
  (pfR G.2.2.2.1 u6 7 241 (some b1) (some q5.1)).bind fun u7 =>
  bdU (zNew u7 6 3) fun q8 =>
  (fJ2_init G (some q8.1) q8.2).bind fun u9 =>
  (pfR G.2.2.2.1 u9 7 242 (some b1) (some q8.1)).bind fun u10 =>
  bdU (zNew u10 6 3) fun q11 =>
  (fJ2_init G (some q11.1) q11.2).bind fun u12 =>
  (pfR G.2.2.2.1 u12 7 243 (some b1) (some q11.1)).bind fun u13 =>
  bdU (zNew u13 6 3) fun q14 =>
  (fJ2_init G (some q14.1) q14.2).bind fun u15 =>
  (pfR G.2.2.2.1 u15 7 244 (some b1) (some q14.1)).bind fun u16 =>
  (pfI G.2.2.2.1 u16 7 245 (some b1) (-3)).bind fun u17 =>
  (pfI G.2.2.2.1 u17 7 246 (some b1) (-3)).bind fun u18 =>
  bdU (zNewA u18 1 3) fun q19 =>
  (asI G.2.2.2.1 q19.2 1 (some q19.1) 0 (-3)).bind fun u20 =>
  (asI G.2.2.2.1 u20 1 (some q19.1) 1 (-3)).bind fun u21 =>
  (asI G.2.2.2.1 u21 1 (some q19.1) 2 (-3)).bind fun u22 =>
  (pfR G.2.2.2.1 u22 7 247 (some b1) (some q19.1)).bind fun u23 =>
  bdU (zNew u23 6 3) fun q24 =>
  (fJ2_init G (some q24.1) q24.2).bind fun u25 =>
  (pfR G.2.2.2.1 u25 7 250 (some b1) (some q24.1)).bind fun u26 =>
  some (u26, 0, 0)
noncomputable def f0_wording_b61 (G : CG) (v0 : Option Nat) (v1 : Int) (u : Sg) : Option ((Int × Sg) × Nat × Nat) :=
  (pfI G.2.2.2.1 u 1 2 v0 0).bind fun u1 =>
  some ((v1, u1), 0, 0)
noncomputable def f0_wording_b54 (G : CG) (v0 : Option Nat) (s0 : Option Nat) (u : Sg) : Option ((Int × Sg) × Nat × Nat) :=
  (ztg u 1 v0).bind fun b1 =>
  (f0_failed G (some b1) s0 u).bind fun q2 =>
  f0_wording_b61 G v0 q2.1 q2.2
noncomputable def f0_wording (G : CG) (v0 : Option Nat) (u : Sg) : Option ((Int × Sg) × Nat × Nat) :=
  (gfR u 1 5 v0).bind fun x1 =>
  (ztg u 6 x1).bind fun b2 =>
  (fJ2_size G (some b2) u).bind fun x3 =>
  if (w32 x3) = 12 then
    some (((-4), u), 0, 0)
  else
    (pfI G.2.2.2.1 u 1 3 v0 (-1)).bind fun u4 =>
    bdU (zNew u4 7 14) fun q5 =>
    bdU (f6_init G (some q5.1) q5.2) fun q6 =>
    bdU (zNew q6 8 11) fun q7 =>
    bdU (f7_init G (some q7.1) v0 (some q5.1) 300 q7.2) fun q8 => tel q8.1 (fun e9 => (ztg q8.2 9 (some e9)).bind fun b21 =>
        f0_wording_b54 G v0 (some e9) q8.2) fun x10 =>
    (ztg q8.2 8 (some q7.1)).bind fun b11 =>
    bdU (f7_wording G (some b11) q8.2) fun q12 => tel q12.1 (fun e13 => (ztg q12.2 9 (some e13)).bind fun b20 =>
        f0_wording_b54 G v0 (some e13) q12.2) fun x14 =>
    (ztg q12.2 1 v0).bind fun b15 =>
    bdU (f0_finish G (some b15) (some q5.1) q12.2) fun q16 => tel q16.1 (fun e17 => (ztg q16.2 9 (some e17)).bind fun b19 =>
        f0_wording_b54 G v0 (some e17) q16.2) fun x18 =>
    f0_wording_b61 G v0 x18 q16.2
noncomputable def f0_isWording (G : CG) (v0 : Option Nat) (v1 : Int) (u : Sg) : Option (Int) :=
  if (w32 v1) ≤ 0 then
    some 0
  else
    (gfR u 1 5 v0).bind fun x1 =>
    (ztg u 6 x1).bind fun b2 =>
    (fJ2_size G (some b2) u).bind fun x3 =>
    if (w32 x3) < (w32 v1) then
      some 0
    else
      some 1
noncomputable def f0_the (G : CG) (v0 : Option Nat) (v1 : Int) (u : Sg) : Option (Option Nat) :=
  (gfR u 1 5 v0).bind fun x1 =>
  (ztg u 6 x1).bind fun b2 =>
  (fJ2_get G (some b2) (v1 - 1) u).bind fun x3 =>
  (zcast u [7] x3).bind fun y4 =>
  some x3
noncomputable def f7_endorsement_b191 (G : CG) (kh : Sg → Option (((Nat × Sg) ⊕ ((Sg) ⊕ (Sg) ⊕ (Sg) ⊕ (Sg))) × Nat × Nat)) (v0 : Option Nat) (v2 : Option Nat) (v3 : Option Nat) (v4 : Option Nat) (s0 : Option Nat) (s1 : Int) (s2 : Option Nat) (u : Sg) : Option (((Nat × Sg) ⊕ ((Sg) ⊕ (Sg) ⊕ (Sg) ⊕ (Sg))) × Nat × Nat) :=
  (ztg u 6 s0).bind fun b1 =>
  (fJ2_set G (some b1) s1 s2 u).bind fun q2 =>
  kh q2.2
noncomputable def f7_endorsement_b175 (G : CG) (kh : Sg → Option (((Nat × Sg) ⊕ ((Sg) ⊕ (Sg) ⊕ (Sg) ⊕ (Sg))) × Nat × Nat)) (v0 : Option Nat) (v2 : Option Nat) (v3 : Option Nat) (v4 : Option Nat) (v5 : Int) (v6 : Int) (u : Sg) : Option (((Nat × Sg) ⊕ ((Sg) ⊕ (Sg) ⊕ (Sg) ⊕ (Sg))) × Nat × Nat) :=
  if (w32 v5) = 0 then
    (ztg u 8 v0).bind fun b1 =>
    bdU (f7_clause G (some b1) u) fun q2 => tel q2.1 (fun e3 => some (.inl (e3, q2.2), 0, 0)) fun x4 =>
    f7_endorsement_b191 G (kh) v0 v2 v3 v4 v2 v6 x4 q2.2
  else
    f7_endorsement_b191 G (kh) v0 v2 v3 v4 v2 v6 none u
noncomputable def f7_endorsement_b79 (G : CG) (kh : Sg → Option (((Nat × Sg) ⊕ ((Sg) ⊕ (Sg) ⊕ (Sg) ⊕ (Sg))) × Nat × Nat)) (v0 : Option Nat) (v2 : Option Nat) (v3 : Option Nat) (v4 : Option Nat) (v5 : Int) (u : Sg) : Option (((Nat × Sg) ⊕ ((Sg) ⊕ (Sg) ⊕ (Sg) ⊕ (Sg))) × Nat × Nat) :=
  (ztg u 8 v0).bind fun b1 =>
  bdU (f7_next G (some b1) u) fun q2 => tel q2.1 (fun e3 => some (.inl (e3, q2.2), 0, 0)) fun x4 =>
  (ztg q2.2 8 v0).bind fun b5 =>
  bdU (f7_wantKind G (some b5) 2 q2.2) fun q6 => tel q6.1 (fun e7 => some (.inl (e7, q6.2), 0, 0)) fun x8 =>
  (gfI q6.2 8 284 v0).bind fun x9 =>
  if (w32 (x9 - 1)) < 0 then
    some ((.inr (.inl q6.2)), 0, 0)
  else
    (ztg q6.2 6 v2).bind fun b10 =>
    (fJ2_size G (some b10) q6.2).bind fun x11 =>
    if (w32 x11) ≤ (w32 (x9 - 1)) then
      some ((.inr (.inl q6.2)), 0, 0)
    else
      (alI q6.2 3 v3 (x9 - 1)).bind fun x12 =>
      if (w32 x12) = 0 then
        (asI G.2.2.2.1 q6.2 3 v3 (x9 - 1) (nz 1)).bind fun u13 =>
        (ztg u13 8 v0).bind fun b14 =>
        bdU (f7_next G (some b14) u13) fun q15 => tel q15.1 (fun e16 => some (.inl (e16, q15.2), 0, 0)) fun x17 =>
        if (w32 v5) = 0 then
          (ztg q15.2 8 v0).bind fun b18 =>
          (f7_isClause G (some b18) q15.2).bind fun x19 =>
          if (w32 x19) = 0 then
            some ((.inr (.inr (.inl q15.2))), 0, 0)
          else
            f7_endorsement_b175 G (kh) v0 v2 v3 v4 v5 (x9 - 1) q15.2
        else
          (ztg q15.2 8 v0).bind fun b21 =>
          bdU (f7_want G (some b21) 59 q15.2) fun q22 => tel q22.1 (fun e23 => some (.inl (e23, q22.2), 0, 0)) fun x24 =>
          f7_endorsement_b175 G (kh) v0 v2 v3 v4 v5 (x9 - 1) q22.2
      else
        some ((.inr (.inl q6.2)), 0, 0)
noncomputable def f7_endorsement_l26 (G : CG) (v0 : Option Nat) (v2 : Option Nat) (v3 : Option Nat) (v4 : Option Nat) : Nat → Sg → Option (((Nat × Sg) ⊕ ((Sg) ⊕ (Sg) ⊕ (Sg) ⊕ (Sg))) × Nat × Nat)
  | 0, _ => none
  | n + 1, u =>
    (gfI u 8 281 v0).bind fun x1 =>
    if (w32 x1) = 0 then
      some ((.inr (.inr (.inr (.inr u)))), 0, 0)
    else
      (ztg u 8 v0).bind fun b2 =>
      (f7_is G (some b2) 126943972911973 u).bind fun x3 =>
      (ztg u 8 v0).bind fun b4 =>
      (f7_isClause G (some b4) u).bind fun x5 =>
      if (w32 x5) = 0 then
        if (w32 x3) = 0 then
          (ztg u 8 v0).bind fun b6 =>
          (f7_is G (some b6) 29676314707714404 u).bind fun x7 =>
          if (w32 x7) = 0 then
            some ((.inr (.inr (.inr (.inl u)))), 0, 0)
          else
            f7_endorsement_b79 G (f7_endorsement_l26 G v0 v2 v3 v4 n) v0 v2 v3 v4 x3 u
        else
          f7_endorsement_b79 G (f7_endorsement_l26 G v0 v2 v3 v4 n) v0 v2 v3 v4 x3 u
      else
        (ztg u 8 v0).bind fun b10 =>
        bdU (f7_clause G (some b10) u) fun q11 => tel q11.1 (fun e12 => some (.inl (e12, q11.2), 0, 0)) fun x13 =>
        (ztg q11.2 6 v4).bind fun b14 =>
        bdU (fJ2_add G (some b14) x13 q11.2) fun q15 =>
        f7_endorsement_l26 G v0 v2 v3 v4 n q15.2
noncomputable def f7_endorsement_b119 (G : CG) (v0 : Option Nat) (u : Sg) : Option (((Nat ⊕ (Unit)) × Sg) × Nat × Nat) :=
  bdU (zNew u 9 8) fun q1 =>
  (gfI q1.2 8 282 v0).bind fun x2 =>
  (f8_init G (some q1.1) 5 x2 q1.2).bind fun u3 =>
  xth q1.1 u3
noncomputable def f7_endorsement_l219 (G : CG) (v0 : Option Nat) (v2 : Option Nat) (v4 : Option Nat) : Nat → Int → Sg → Option ((Sg) × Nat × Nat)
  | 0, _, _ => none
  | n + 1, v5, u =>
    (ztg u 6 v2).bind fun b1 =>
    (fJ2_size G (some b1) u).bind fun x2 =>
    if (w32 x2) ≤ (w32 v5) then
      some (u, 0, 0)
    else
      (ztg u 6 v2).bind fun b3 =>
      (fJ2_get G (some b3) v5 u).bind fun x4 =>
      if x4 = none then
        f7_endorsement_l219 G v0 v2 v4 n (v5 + 1) u
      else
        (gfR u 8 286 v0).bind fun x5 =>
        (gfR u 7 243 x5).bind fun x6 =>
        (ztg u 6 v2).bind fun b7 =>
        (fJ2_get G (some b7) v5 u).bind fun x8 =>
        (zcast u [17] x8).bind fun y9 =>
        (ztg u 6 x6).bind fun b10 =>
        bdU (fJ2_add G (some b10) x8 u) fun q11 =>
        f7_endorsement_l219 G v0 v2 v4 n (v5 + 1) q11.2
noncomputable def f7_endorsement_b316 (G : CG) (v0 : Option Nat) (u : Sg) : Option (((Nat ⊕ (Unit)) × Sg) × Nat × Nat) :=
  bdU (zNew u 9 8) fun q1 =>
  (gfR q1.2 8 290 v0).bind fun x2 =>
  (gfI q1.2 1 2 x2).bind fun x3 =>
  (f8_init G (some q1.1) 6 x3 q1.2).bind fun u4 =>
  xth q1.1 u4
noncomputable def f7_endorsement (G : CG) (v0 : Option Nat) (v1 : Option Nat) (u : Sg) : Option (((Nat ⊕ (Unit)) × Sg) × Nat × Nat) :=
  bdU (zNew u 6 3) fun q1 =>
  (gfR q1.2 7 243 v1).bind fun x2 =>
  bdU (fJ2_init_2 G (some q1.1) x2 q1.2) fun q3 =>
  bdU (zNewA q3 3 24) fun q4 =>
  bdU (zNew q4.2 6 3) fun q5 =>
  (fJ2_init G (some q5.1) q5.2).bind fun u6 =>
  bdU (f7_endorsement_l26 G v0 (some q1.1) (some q4.1) (some q5.1) NN u6)
    (Sum.elim (fun e31 => xth e31.1 e31.2)
      (Sum.elim
        (fun q7 =>
          f7_endorsement_b119 G v0 q7)
        (Sum.elim
          (fun q8 =>
            bdU (zNew q8 9 8) fun q9 =>
            (gfI q9.2 8 282 v0).bind fun x10 =>
            (f8_init G (some q9.1) 2 x10 q9.2).bind fun u11 =>
            xth q9.1 u11)
          (Sum.elim
            (fun q12 =>
              bdU (zNew q12 9 8) fun q13 =>
              (gfI q13.2 8 282 v0).bind fun x14 =>
              (f8_init G (some q13.1) 2 x14 q13.2).bind fun u15 =>
              xth q13.1 u15)
            (fun q16 =>
              bdU (f7_endorsement_l219 G v0 (some q1.1) (some q5.1) NN 0 q16) fun q17 =>
              (gfR q17 8 286 v0).bind fun x18 =>
              (gfR q17 7 243 x18).bind fun x19 =>
              (ztg q17 6 x19).bind fun b20 =>
              bdU (fJ2_addAll G (some b20) (some q5.1) q17) fun q21 =>
              (gfR q21.2 8 286 v0).bind fun x22 =>
              (gfR q21.2 7 243 x22).bind fun x23 =>
              (ztg q21.2 6 x23).bind fun b24 =>
              (fJ2_size G (some b24) q21.2).bind fun x25 =>
              if 24 < (w32 x25) then
                f7_endorsement_b316 G v0 q21.2
              else
                (gfR q21.2 8 286 v0).bind fun x26 =>
                (ztg q21.2 7 x26).bind fun b27 =>
                (f6_countNodes G (some b27) q21.2).bind fun q28 =>
                if (w32 q28.1) ≤ 300 then
                  some ((.inr (), q28.2), 0, 0)
                else
                  f7_endorsement_b316 G v0 q28.2)))))
noncomputable def f6_takeOver_l74 (G : CG) (v0 : Option Nat) (v1 : Option Nat) : Nat → Int → Sg → Option (Sg)
  | 0, _, _ => none
  | n + 1, v2, u =>
    if 3 ≤ (w32 v2) then
      some u
    else
      (gfR u 7 247 v0).bind fun x1 =>
      (gfR u 7 247 v1).bind fun x2 =>
      (alI u 1 x2 v2).bind fun x3 =>
      (asI G.2.2.2.1 u 1 x1 v2 x3).bind fun u4 =>
      f6_takeOver_l74 G v0 v1 n (v2 + 1) u4
noncomputable def f6_takeOver (G : CG) (v0 : Option Nat) (v1 : Option Nat) (u : Sg) : Option ((Sg) × Nat × Nat) :=
  (gfR u 7 240 v0).bind fun x1 =>
  (gfR u 7 240 v1).bind fun x2 =>
  (ztg u 6 x1).bind fun b3 =>
  bdU (fJ2_addAll G (some b3) x2 u) fun q4 =>
  (gfR q4.2 7 241 v0).bind fun x5 =>
  (gfR q4.2 7 241 v1).bind fun x6 =>
  (ztg q4.2 6 x5).bind fun b7 =>
  bdU (fJ2_addAll G (some b7) x6 q4.2) fun q8 =>
  (gfR q8.2 7 242 v0).bind fun x9 =>
  (gfR q8.2 7 242 v1).bind fun x10 =>
  (ztg q8.2 6 x9).bind fun b11 =>
  bdU (fJ2_addAll G (some b11) x10 q8.2) fun q12 =>
  (gfR q12.2 7 244 v0).bind fun x13 =>
  (gfR q12.2 7 244 v1).bind fun x14 =>
  (ztg q12.2 6 x13).bind fun b15 =>
  bdU (fJ2_addAll G (some b15) x14 q12.2) fun q16 =>
  (gfI q16.2 7 245 v1).bind fun x17 =>
  (pfI G.2.2.2.1 q16.2 7 245 v0 x17).bind fun u18 =>
  (gfI u18 7 246 v1).bind fun x19 =>
  (pfI G.2.2.2.1 u18 7 246 v0 x19).bind fun u20 =>
  (f6_takeOver_l74 G v0 v1 NN 0 u20).bind fun q21 =>
  (gfI q21 7 248 v1).bind fun x22 =>
  (pfI G.2.2.2.1 q21 7 248 v0 x22).bind fun u23 =>
  some (u23, 0, 0)
noncomputable def f0_endorse_b85 (G : CG) (v0 : Option Nat) (v2 : Int) (u : Sg) : Option ((Int × Sg) × Nat × Nat) :=
  (pfI G.2.2.2.1 u 1 2 v0 0).bind fun u1 =>
  some ((v2, u1), 0, 0)
noncomputable def f0_endorse_b78 (G : CG) (v0 : Option Nat) (s0 : Option Nat) (u : Sg) : Option ((Int × Sg) × Nat × Nat) :=
  (ztg u 1 v0).bind fun b1 =>
  (f0_failed G (some b1) s0 u).bind fun q2 =>
  f0_endorse_b85 G v0 q2.1 q2.2
noncomputable def f0_endorse (G : CG) (v0 : Option Nat) (v1 : Int) (u : Sg) : Option ((Int × Sg) × Nat × Nat) :=
  (ztg u 1 v0).bind fun b1 =>
  (f0_isWording G (some b1) v1 u).bind fun x2 =>
  if (w32 x2) = 0 then
    some (((-1), u), 0, 0)
  else
    (gfR u 1 5 v0).bind fun x3 =>
    (ztg u 6 x3).bind fun b4 =>
    (fJ2_size G (some b4) u).bind fun x5 =>
    if (w32 x5) = 12 then
      some (((-4), u), 0, 0)
    else
      (pfI G.2.2.2.1 u 1 3 v0 (-1)).bind fun u6 =>
      bdU (zNew u6 7 14) fun q7 =>
      bdU (f6_init G (some q7.1) q7.2) fun q8 =>
      (ztg q8 1 v0).bind fun b9 =>
      (f0_the G (some b9) v1 q8).bind fun x10 =>
      (ztg q8 7 (some q7.1)).bind fun b11 =>
      bdU (f6_takeOver G (some b11) x10 q8) fun q12 =>
      bdU (zNew q12 8 11) fun q13 =>
      bdU (f7_init G (some q13.1) v0 (some q7.1) 4000 q13.2) fun q14 => tel q14.1 (fun e15 => (ztg q14.2 9 (some e15)).bind fun b29 =>
          f0_endorse_b78 G v0 (some e15) q14.2) fun x16 =>
      (ztg q14.2 1 v0).bind fun b17 =>
      (f0_the G (some b17) v1 q14.2).bind fun x18 =>
      (ztg q14.2 8 (some q13.1)).bind fun b19 =>
      bdU (f7_endorsement G (some b19) x18 q14.2) fun q20 => tel q20.1 (fun e21 => (ztg q20.2 9 (some e21)).bind fun b28 =>
          f0_endorse_b78 G v0 (some e21) q20.2) fun x22 =>
      (ztg q20.2 1 v0).bind fun b23 =>
      bdU (f0_finish G (some b23) (some q7.1) q20.2) fun q24 => tel q24.1 (fun e25 => (ztg q24.2 9 (some e25)).bind fun b27 =>
          f0_endorse_b78 G v0 (some e25) q24.2) fun x26 =>
      f0_endorse_b85 G v0 x26 q24.2
noncomputable def f0_wordingPart (G : CG) (v0 : Option Nat) (v1 : Int) (v2 : Int) (u : Sg) : Option (Int) :=
  (ztg u 1 v0).bind fun b1 =>
  (f0_isWording G (some b1) v1 u).bind fun x2 =>
  if (w32 x2) = 0 then
    some (-1)
  else
    (ztg u 1 v0).bind fun b3 =>
    (f0_the G (some b3) v1 u).bind fun x4 =>
    if (w32 v2) = 0 then
      (gfR u 7 240 x4).bind fun x6 =>
      (ztg u 6 x6).bind fun b7 =>
      (fJ2_size G (some b7) u).bind fun x8 =>
      some x8
    else
    if (w32 v2) = 1 then
      (gfR u 7 243 x4).bind fun x10 =>
      (ztg u 6 x10).bind fun b11 =>
      (fJ2_size G (some b11) u).bind fun x12 =>
      some x12
    else
    if (w32 v2) = 2 then
      (gfR u 7 244 x4).bind fun x14 =>
      (ztg u 6 x14).bind fun b15 =>
      (fJ2_size G (some b15) u).bind fun x16 =>
      some x16
    else
    if (w32 v2) = 3 then
      (gfI u 7 251 x4).bind fun x18 =>
      some x18
    else
    if (w32 v2) = 4 then
      (gfI u 7 249 x4).bind fun x20 =>
      some x20
    else
    if (w32 v2) = 5 then
      (gfI u 7 245 x4).bind fun x22 =>
      some x22
    else
    if (w32 v2) = 6 then
      (gfI u 7 246 x4).bind fun x24 =>
      some x24
    else
    if (w32 v2) = 7 then
      (gfR u 7 247 x4).bind fun x26 =>
      (alI u 1 x26 (v2 - 7)).bind fun x27 =>
      some x27
    else
    if (w32 v2) = 8 then
      (gfR u 7 247 x4).bind fun x29 =>
      (alI u 1 x29 (v2 - 7)).bind fun x30 =>
      some x30
    else
    if (w32 v2) = 9 then
      (gfR u 7 247 x4).bind fun x32 =>
      (alI u 1 x32 (v2 - 7)).bind fun x33 =>
      some x33
    else
      some (-2)
noncomputable def f0_factPart (G : CG) (v0 : Option Nat) (v1 : Int) (v2 : Int) (v3 : Int) (u : Sg) : Option (Int) :=
  (ztg u 1 v0).bind fun b1 =>
  (f0_isWording G (some b1) v1 u).bind fun x2 =>
  if (w32 x2) = 0 then
    some (-1)
  else
    if (w32 v2) < 0 then
      some (-1)
    else
      (ztg u 1 v0).bind fun b3 =>
      (f0_the G (some b3) v1 u).bind fun x4 =>
      (gfR u 7 240 x4).bind fun x5 =>
      (ztg u 6 x5).bind fun b6 =>
      (fJ2_size G (some b6) u).bind fun x7 =>
      if (w32 v2) < (w32 x7) then
        (ztg u 1 v0).bind fun b8 =>
        (f0_the G (some b8) v1 u).bind fun x9 =>
        (gfR u 7 240 x9).bind fun x10 =>
        (ztg u 6 x10).bind fun b11 =>
        (fJ2_get G (some b11) v2 u).bind fun x12 =>
        (zcast u [10] x12).bind fun y13 =>
        if (w32 v3) = 0 then
          (gfI u 10 361 x12).bind fun x15 =>
          some x15
        else
        if (w32 v3) = 1 then
          (gfI u 10 363 x12).bind fun x17 =>
          some x17
        else
        if (w32 v3) = 2 then
          (gfI u 10 364 x12).bind fun x19 =>
          some x19
        else
        if (w32 v3) = 3 then
          (gfI u 10 365 x12).bind fun x21 =>
          some x21
        else
        if (w32 v3) = 4 then
          (ztg u 1 v0).bind fun b23 =>
          (f0_the G (some b23) v1 u).bind fun x24 =>
          (gfR u 7 250 x24).bind fun x25 =>
          (ztg u 6 x25).bind fun b26 =>
          (fJ2_get G (some b26) v2 u).bind fun x27 =>
          (zcast u [5] x27).bind fun y28 =>
          (gfI u 5 161 x27).bind fun x29 =>
          some x29
        else
          some (-2)
      else
        some (-1)
noncomputable def f0_clause (G : CG) (v0 : Option Nat) (v1 : Int) (v2 : Int) (u : Sg) : Option (Int) :=
  (ztg u 1 v0).bind fun b1 =>
  (f0_isWording G (some b1) v1 u).bind fun x2 =>
  if (w32 x2) = 0 then
    some (-1)
  else
    if (w32 v2) < 1 then
      some (-1)
    else
      (ztg u 1 v0).bind fun b3 =>
      (f0_the G (some b3) v1 u).bind fun x4 =>
      (gfR u 7 243 x4).bind fun x5 =>
      (ztg u 6 x5).bind fun b6 =>
      (fJ2_size G (some b6) u).bind fun x7 =>
      if (w32 v2) ≤ (w32 x7) then
        (ztg u 1 v0).bind fun b8 =>
        (f0_the G (some b8) v1 u).bind fun x9 =>
        (gfR u 7 243 x9).bind fun x10 =>
        (ztg u 6 x10).bind fun b11 =>
        (fJ2_get G (some b11) (v2 - 1) u).bind fun x12 =>
        (zcast u [17] x12).bind fun y13 =>
        (gfI u 17 640 x12).bind fun x14 =>
        some x14
      else
        some (-1)
noncomputable def f3_keep_l19 (G : CG) (v0 : Option Nat) (v1 : Int) : Nat → Int → Sg → Option (Sg)
  | 0, _, _ => none
  | n + 1, v2, u =>
    (gfI u 4 121 v0).bind fun x1 =>
    if (w32 x1) ≤ (w32 v2) then
      some u
    else
      (gfR u 4 123 v0).bind fun x2 =>
      (gfR u 4 129 v0).bind fun x3 =>
      (gfR u 1 13 x3).bind fun x4 =>
      (gfR u 2 40 x4).bind fun x5 =>
      (alI u 1 x5 v2).bind fun x6 =>
      (asI G.2.2.2.1 u 1 x2 ((8 * v1) + v2) x6).bind fun u7 =>
      f3_keep_l19 G v0 v1 n (v2 + 1) u7
noncomputable def f3_keep (G : CG) (v0 : Option Nat) (v1 : Int) (u : Sg) : Option (Sg) :=
  (gfR u 4 124 v0).bind fun x1 =>
  (alI u 3 x1 v1).bind fun x2 =>
  if (w32 x2) = 0 then
    (gfR u 4 124 v0).bind fun x3 =>
    (asI G.2.2.2.1 u 3 x3 v1 (nz 1)).bind fun u4 =>
    (f3_keep_l19 G v0 v1 NN 0 u4).bind fun q5 =>
    some q5
  else
    some u
noncomputable def f3_way_l9 (G : CG) (v0 : Option Nat) : Nat → Int → Int → Sg → Option (Sg)
  | 0, _, _, _ => none
  | n + 1, v2, v3, u =>
    if (w32 v3) < 0 then
      some u
    else
      (gfR u 4 120 v0).bind fun x1 =>
      (ztg u 6 x1).bind fun b2 =>
      (fJ2_get G (some b2) v3 u).bind fun x3 =>
      (zcast u [5] x3).bind fun y4 =>
      (gfR u 4 129 v0).bind fun x5 =>
      (gfR u 1 13 x5).bind fun x6 =>
      (gfR u 2 40 x6).bind fun x7 =>
      (gfR u 5 160 x3).bind fun x8 =>
      (gfI u 5 161 x3).bind fun x9 =>
      if w32 x9 = 0 then none else
      (alI u 1 x8 (rem32 v2 x9)).bind fun x11 =>
      (asI G.2.2.2.1 u 1 x7 v3 x11).bind fun u12 =>
      (gfI u12 5 161 x3).bind fun x13 =>
      if w32 x13 = 0 then none else
      f3_way_l9 G v0 n (div32 v2 x13) (v3 + (-1)) u12
noncomputable def f3_way (G : CG) (v0 : Option Nat) (v1 : Int) (u : Sg) : Option (Sg) :=
  (gfI u 4 121 v0).bind fun x1 =>
  (f3_way_l9 G v0 NN v1 (x1 - 1) u).bind fun q2 =>
  some q2
noncomputable def f4_cell_l7 (G : CG) (v0 : Option Nat) (v1 : Int) (u : Sg) : Nat → Int → Option (Int)
  | 0, _ => none
  | n + 1, v2 =>
    (gfR u 5 160 v0).bind fun x1 =>
    (alI u 1 x1 v2).bind fun x2 =>
    if (w32 x2) ≤ (w32 v1) then
      some v2
    else
      f4_cell_l7 G v0 v1 u n (v2 + (-1))
noncomputable def f4_cell (G : CG) (v0 : Option Nat) (v1 : Int) (u : Sg) : Option (Int) :=
  (gfI u 5 161 v0).bind fun x1 =>
  (f4_cell_l7 G v0 v1 u NN (x1 - 1)).bind fun q2 =>
  some q2
noncomputable def f6_number_l4 (G : CG) (v0 : Option Nat) (v1 : Option Nat) (u : Sg) : Nat → Int → Int → Option (Int)
  | 0, _, _ => none
  | n + 1, v2, v3 =>
    (gfR u 7 240 v0).bind fun x1 =>
    (ztg u 6 x1).bind fun b2 =>
    (fJ2_size G (some b2) u).bind fun x3 =>
    if (w32 x3) ≤ (w32 v3) then
      some v2
    else
      (gfR u 7 250 v0).bind fun x4 =>
      (ztg u 6 x4).bind fun b5 =>
      (fJ2_get G (some b5) v3 u).bind fun x6 =>
      (zcast u [5] x6).bind fun y7 =>
      (gfI u 5 161 x6).bind fun x8 =>
      (gfR u 7 250 v0).bind fun x9 =>
      (ztg u 6 x9).bind fun b10 =>
      (fJ2_get G (some b10) v3 u).bind fun x11 =>
      (zcast u [5] x11).bind fun y12 =>
      (gfR u 2 40 v1).bind fun x13 =>
      (alI u 1 x13 v3).bind fun x14 =>
      (ztg u 5 x11).bind fun b15 =>
      (f4_cell G (some b15) x14 u).bind fun x16 =>
      f6_number_l4 G v0 v1 u n ((v2 * x8) + x16) (v3 + 1)
noncomputable def f6_number (G : CG) (v0 : Option Nat) (v1 : Option Nat) (u : Sg) : Option (Int) :=
  (f6_number_l4 G v0 v1 u NN 0 0).bind fun q1 =>
  some q1
noncomputable def f3_compare_b95 (G : CG) (kh : Int → Sg → Option (Sg)) (v0 : Option Nat) (v1 : Option Nat) (v2 : Option Nat) (v3 : Int) (s0 : Option Nat) (s1 : Int) (u : Sg) : Option (Sg) :=
  (ztg u 4 s0).bind fun b1 =>
  (f3_keep G (some b1) s1 u).bind fun u2 =>
  kh (v3 + 1) u2
noncomputable def f3_compare_l24 (G : CG) (v0 : Option Nat) (v1 : Option Nat) (v2 : Option Nat) : Nat → Int → Sg → Option (Sg)
  | 0, _, _ => none
  | n + 1, v3, u =>
    (gfI u 4 122 v0).bind fun x1 =>
    if (w64 x1) ≤ (w64 (w32 v3)) then
      some u
    else
      (ztg u 4 v0).bind fun b2 =>
      (f3_way G (some b2) v3 u).bind fun u3 =>
      (gfR u3 7 252 v1).bind fun x4 =>
      (gfR u3 4 129 v0).bind fun x5 =>
      (gfR u3 1 13 x5).bind fun x6 =>
      (ztg u3 7 v1).bind fun b7 =>
      (f6_number G (some b7) x6 u3).bind fun x8 =>
      (alI u3 2 x4 x8).bind fun x9 =>
      (gfR u3 7 252 v2).bind fun x10 =>
      (gfR u3 4 129 v0).bind fun x11 =>
      (gfR u3 1 13 x11).bind fun x12 =>
      (ztg u3 7 v2).bind fun b13 =>
      (f6_number G (some b13) x12 u3).bind fun x14 =>
      (alI u3 2 x10 x14).bind fun x15 =>
      if (w32 x9) = (w32 x15) then
        f3_compare_l24 G v0 v1 v2 n (v3 + 1) u3
      else
        if (w32 x9) ≤ (w32 x15) then
          f3_compare_b95 G (f3_compare_l24 G v0 v1 v2 n) v0 v1 v2 v3 v0 1 u3
        else
          f3_compare_b95 G (f3_compare_l24 G v0 v1 v2 n) v0 v1 v2 v3 v0 0 u3
noncomputable def f3_compare_b118 (G : CG) (v0 : Option Nat) (s0 : Int) (u : Sg) : Option (Int × Sg) :=
  (gfR u 4 124 v0).bind fun x1 =>
  (alI u 3 x1 1).bind fun x2 =>
  if (w32 x2) = 0 then
    some ((s0 + 0), u)
  else
    some ((s0 + 2), u)
noncomputable def f3_compare (G : CG) (v0 : Option Nat) (v1 : Option Nat) (v2 : Option Nat) (u : Sg) : Option (Int × Sg) :=
  (gfR u 4 124 v0).bind fun x1 =>
  (asI G.2.2.2.1 u 3 x1 0 (nz 0)).bind fun u2 =>
  (gfR u2 4 124 v0).bind fun x3 =>
  (asI G.2.2.2.1 u2 3 x3 1 (nz 0)).bind fun u4 =>
  (gfI u4 4 121 v0).bind fun x5 =>
  (pfI G.2.2.2.1 u4 4 125 v0 x5).bind fun u6 =>
  (f3_compare_l24 G v0 v1 v2 NN 0 u6).bind fun q7 =>
  (gfR q7 4 124 v0).bind fun x8 =>
  (alI q7 3 x8 0).bind fun x9 =>
  if (w32 x9) = 0 then
    f3_compare_b118 G v0 0 q7
  else
    f3_compare_b118 G v0 1 q7
noncomputable def f3_isParted_b97 (G : CG) (kh : Int → Sg → Option (Sg)) (v0 : Option Nat) (v1 : Option Nat) (v2 : Option Nat) (v3 : Option Nat) (v4 : Int) (v5 : Option Nat) (u : Sg) : Option (Sg) :=
  (gfI u 4 122 v0).bind fun x1 =>
  (gfI u 5 161 v5).bind fun x2 =>
  (pfI G.2.2.2.1 u 4 122 v0 (mn64 (x1 * (w32 x2)) 1000000)).bind fun u3 =>
  kh (v4 + 1) u3
noncomputable def f3_isParted_b85 (G : CG) (kh : Int → Sg → Option (Sg)) (v0 : Option Nat) (v1 : Option Nat) (v2 : Option Nat) (v3 : Option Nat) (v4 : Int) (v5 : Option Nat) (u : Sg) : Option (Sg) :=
  if v3 = none then
    f3_isParted_b97 G (kh) v0 v1 v2 v3 v4 v5 u
  else
    (kv_part G DD v3 v4 v5 u).bind fun u1 =>
    f3_isParted_b97 G (kh) v0 v1 v2 v3 v4 v5 u1
noncomputable def f3_isParted_l21 (G : CG) (v0 : Option Nat) (v1 : Option Nat) (v2 : Option Nat) (v3 : Option Nat) : Nat → Int → Sg → Option (Sg)
  | 0, _, _ => none
  | n + 1, v4, u =>
    (gfI u 4 121 v0).bind fun x1 =>
    if (w32 x1) ≤ (w32 v4) then
      some u
    else
      (gfR u 4 120 v0).bind fun x2 =>
      (ztg u 6 x2).bind fun b3 =>
      (fJ2_get G (some b3) v4 u).bind fun x4 =>
      (zcast u [5] x4).bind fun y5 =>
      (gfR u 7 240 v1).bind fun x6 =>
      (ztg u 6 x6).bind fun b7 =>
      (fJ2_get G (some b7) v4 u).bind fun x8 =>
      (zcast u [10] x8).bind fun y9 =>
      (ztg u 5 x4).bind fun b10 =>
      (f4_begin G (some b10) x8 u).bind fun u11 =>
      (ztg u11 7 v1).bind fun b12 =>
      (f6_part G (some b12) v4 x4 u11).bind fun u13 =>
      if v2 = none then
        f3_isParted_b85 G (f3_isParted_l21 G v0 v1 v2 v3 n) v0 v1 v2 v3 v4 x4 u13
      else
        (ztg u13 7 v2).bind fun b14 =>
        (f6_part G (some b14) v4 x4 u13).bind fun u15 =>
        f3_isParted_b85 G (f3_isParted_l21 G v0 v1 v2 v3 n) v0 v1 v2 v3 v4 x4 u15
noncomputable def f3_isParted (G : CG) (v0 : Option Nat) (v1 : Option Nat) (v2 : Option Nat) (v3 : Option Nat) (u : Sg) : Option (Int × Sg) :=
  (gfR u 7 240 v1).bind fun x1 =>
  (ztg u 6 x1).bind fun b2 =>
  (fJ2_size G (some b2) u).bind fun x3 =>
  (pfI G.2.2.2.1 u 4 121 v0 x3).bind fun u4 =>
  (pfI G.2.2.2.1 u4 4 122 v0 1).bind fun u5 =>
  (f3_isParted_l21 G v0 v1 v2 v3 NN 0 u5).bind fun q6 =>
  (gfI q6 4 122 v0).bind fun x7 =>
  if 20000 < (w64 x7) then
    some (0, q6)
  else
    some (1, q6)
noncomputable def f9_isLike_l60 (G : CG) (v0 : Option Nat) (v1 : Option Nat) (u : Sg) : Nat → Int → Option ((Unit) ⊕ (Unit))
  | 0, _ => none
  | n + 1, v2 =>
    (gfI u 10 363 v0).bind fun x1 =>
    if (w32 x1) ≤ (w32 v2) then
      some (.inr ())
    else
      (gfR u 10 362 v0).bind fun x2 =>
      (alI u 4 x2 v2).bind fun x3 =>
      (gfR u 10 362 v1).bind fun x4 =>
      (alI u 4 x4 v2).bind fun x5 =>
      if (w64 x3) = (w64 x5) then
        f9_isLike_l60 G v0 v1 u n (v2 + 1)
      else
        some (.inl ())
noncomputable def f9_isLike (G : CG) (v0 : Option Nat) (v1 : Option Nat) (u : Sg) : Option (Int) :=
  (gfI u 10 360 v0).bind fun x1 =>
  (gfI u 10 360 v1).bind fun x2 =>
  if (w64 x1) = (w64 x2) then
    (gfI u 10 361 v0).bind fun x3 =>
    (gfI u 10 361 v1).bind fun x4 =>
    if (w32 x3) = (w32 x4) then
      (gfI u 10 363 v0).bind fun x5 =>
      (gfI u 10 363 v1).bind fun x6 =>
      if (w32 x5) = (w32 x6) then
        (gfI u 10 364 v0).bind fun x7 =>
        (gfI u 10 364 v1).bind fun x8 =>
        if (w32 x7) = (w32 x8) then
          (gfI u 10 365 v0).bind fun x9 =>
          (gfI u 10 365 v1).bind fun x10 =>
          if (w32 x9) = (w32 x10) then
            (f9_isLike_l60 G v0 v1 u NN 0).bind
              (Sum.elim
                (fun q11 =>
                  some 0)
                (fun q12 =>
                  some 1))
          else
            some 0
        else
          some 0
      else
        some 0
    else
      some 0
  else
    some 0
noncomputable def f6_isComparable_l25 (G : CG) (v0 : Option Nat) (v1 : Option Nat) (u : Sg) : Nat → Int → Option ((Unit) ⊕ (Unit))
  | 0, _ => none
  | n + 1, v2 =>
    (gfR u 7 240 v0).bind fun x1 =>
    (ztg u 6 x1).bind fun b2 =>
    (fJ2_size G (some b2) u).bind fun x3 =>
    if (w32 x3) ≤ (w32 v2) then
      some (.inr ())
    else
      (gfR u 7 240 v0).bind fun x4 =>
      (ztg u 6 x4).bind fun b5 =>
      (fJ2_get G (some b5) v2 u).bind fun x6 =>
      (zcast u [10] x6).bind fun y7 =>
      (gfR u 7 240 v1).bind fun x8 =>
      (ztg u 6 x8).bind fun b9 =>
      (fJ2_get G (some b9) v2 u).bind fun x10 =>
      (zcast u [10] x10).bind fun y11 =>
      (ztg u 10 x6).bind fun b12 =>
      (f9_isLike G (some b12) x10 u).bind fun x13 =>
      if (w32 x13) = 0 then
        some (.inl ())
      else
        f6_isComparable_l25 G v0 v1 u n (v2 + 1)
noncomputable def f6_isComparable (G : CG) (v0 : Option Nat) (v1 : Option Nat) (u : Sg) : Option (Int) :=
  (gfR u 7 240 v0).bind fun x1 =>
  (ztg u 6 x1).bind fun b2 =>
  (fJ2_size G (some b2) u).bind fun x3 =>
  (gfR u 7 240 v1).bind fun x4 =>
  (ztg u 6 x4).bind fun b5 =>
  (fJ2_size G (some b5) u).bind fun x6 =>
  if (w32 x3) = (w32 x6) then
    (f6_isComparable_l25 G v0 v1 u NN 0).bind
      (Sum.elim
        (fun q7 =>
          some 0)
        (fun q8 =>
          some 1))
  else
    some 0
noncomputable def f0_compare (G : CG) (v0 : Option Nat) (v1 : Int) (v2 : Int) (u : Sg) : Option (Int × Sg) :=
  (ztg u 1 v0).bind fun b1 =>
  (f0_isWording G (some b1) v1 u).bind fun x2 =>
  if (w32 x2) = 0 then
    some ((-1), u)
  else
    (ztg u 1 v0).bind fun b3 =>
    (f0_isWording G (some b3) v2 u).bind fun x4 =>
    if (w32 x4) = 0 then
      some ((-1), u)
    else
      (ztg u 1 v0).bind fun b5 =>
      (f0_the G (some b5) v1 u).bind fun x6 =>
      (ztg u 1 v0).bind fun b7 =>
      (f0_the G (some b7) v2 u).bind fun x8 =>
      (ztg u 7 x6).bind fun b9 =>
      (f6_isComparable G (some b9) x8 u).bind fun x10 =>
      if (w32 x10) = 0 then
        some ((-3), u)
      else
        (gfR u 1 15 v0).bind fun x11 =>
        (ztg u 1 v0).bind fun b12 =>
        (f0_the G (some b12) v1 u).bind fun x13 =>
        (ztg u 1 v0).bind fun b14 =>
        (f0_the G (some b14) v2 u).bind fun x15 =>
        (ztg u 4 x11).bind fun b16 =>
        (f3_isParted G (some b16) x13 x15 none u).bind fun q17 =>
        if (w32 q17.1) = 0 then
          some ((-4), q17.2)
        else
          (gfR q17.2 1 15 v0).bind fun x18 =>
          (ztg q17.2 1 v0).bind fun b19 =>
          (f0_the G (some b19) v1 q17.2).bind fun x20 =>
          (ztg q17.2 1 v0).bind fun b21 =>
          (f0_the G (some b21) v2 q17.2).bind fun x22 =>
          (ztg q17.2 4 x18).bind fun b23 =>
          (f3_compare G (some b23) x20 x22 q17.2).bind fun q24 =>
          some (q24.1, q24.2)
noncomputable def f0_apart (G : CG) (v0 : Option Nat) (v1 : Int) (v2 : Int) (u : Sg) : Option (Int) :=
  if (w32 v1) < 0 then
    some (-1)
  else
    if (w32 v1) ≤ 1 then
      (gfR u 1 15 v0).bind fun x1 =>
      (gfR u 4 124 x1).bind fun x2 =>
      (alI u 3 x2 v1).bind fun x3 =>
      if (w32 x3) = 0 then
        some (-3)
      else
        if (w32 v2) < 0 then
          some (-1)
        else
          (gfR u 1 15 v0).bind fun x4 =>
          (gfI u 4 125 x4).bind fun x5 =>
          if (w32 v2) < (w32 x5) then
            (gfR u 1 15 v0).bind fun x6 =>
            (gfR u 4 123 x6).bind fun x7 =>
            (alI u 1 x7 ((8 * v1) + v2)).bind fun x8 =>
            some x8
          else
            some (-1)
    else
      some (-1)
noncomputable def f3_judge_l16 (G : CG) (v0 : Option Nat) (v1 : Option Nat) (v2 : Int) (v3 : Option Nat) : Nat → Int → Sg → Option (Sg)
  | 0, _, _ => none
  | n + 1, v4, u =>
    (gfI u 4 122 v0).bind fun x1 =>
    if (w64 x1) ≤ (w64 (w32 v4)) then
      some u
    else
      (gfI u 4 127 v0).bind fun x2 =>
      if (w32 x2) = 0 then
        (ztg u 4 v0).bind fun b3 =>
        (f3_way G (some b3) v4 u).bind fun u4 =>
        (gfR u4 4 129 v0).bind fun x5 =>
        (gfR u4 1 13 x5).bind fun x6 =>
        (ztg u4 7 v1).bind fun b7 =>
        (f6_mean G (some b7) x6 u4).bind fun u8 =>
        (gfR u8 4 129 v0).bind fun x9 =>
        (gfR u8 1 13 x9).bind fun x10 =>
        (kv_isTrue G DD v3 x10 u8).bind fun x11 =>
        if (w32 x11) = 0 then
          f3_judge_l16 G v0 v1 v2 v3 n (v4 + 1) u8
        else
          (gfR u8 7 252 v1).bind fun x12 =>
          (gfR u8 4 129 v0).bind fun x13 =>
          (gfR u8 1 13 x13).bind fun x14 =>
          (ztg u8 7 v1).bind fun b15 =>
          (f6_number G (some b15) x14 u8).bind fun x16 =>
          (alI u8 2 x12 x16).bind fun x17 =>
          if (w32 v2) = 0 then
            if (w32 x17) = 0 then
              (pfI G.2.2.2.1 u8 4 127 v0 1).bind fun u22 =>
              f3_judge_l16 G v0 v1 v2 v3 n (v4 + 1) u22
            else
              (pfI G.2.2.2.1 u8 4 127 v0 0).bind fun u21 =>
              f3_judge_l16 G v0 v1 v2 v3 n (v4 + 1) u21
          else
            if (w32 x17) = 1 then
              (pfI G.2.2.2.1 u8 4 127 v0 1).bind fun u19 =>
              f3_judge_l16 G v0 v1 v2 v3 n (v4 + 1) u19
            else
              (pfI G.2.2.2.1 u8 4 127 v0 0).bind fun u18 =>
              f3_judge_l16 G v0 v1 v2 v3 n (v4 + 1) u18
      else
        some u
noncomputable def f3_judge_l127 (G : CG) (v0 : Option Nat) (v2 : Int) : Nat → Int → Sg → Option (Sg)
  | 0, _, _ => none
  | n + 1, v4, u =>
    (gfI u 4 121 v0).bind fun x1 =>
    if (w32 x1) ≤ (w32 v4) then
      some u
    else
      (gfI u 4 127 v0).bind fun x2 =>
      if (w32 x2) = 0 then
        some u
      else
        (gfR u 4 126 v0).bind fun x3 =>
        (gfR u 4 129 v0).bind fun x4 =>
        (gfR u 1 13 x4).bind fun x5 =>
        (gfR u 2 40 x5).bind fun x6 =>
        (alI u 1 x6 v4).bind fun x7 =>
        (asI G.2.2.2.1 u 1 x3 v4 x7).bind fun u8 =>
        f3_judge_l127 G v0 v2 n (v4 + 1) u8
noncomputable def f3_judge_b183 (G : CG) (s0 : Int) (s1 : Int) (u : Sg) : Option (Int × Sg) :=
  if (w32 s0) = (w32 s1) then
    some (1, u)
  else
    some (0, u)
noncomputable def f3_judge_b169 (G : CG) (v0 : Option Nat) (v2 : Int) (u : Sg) : Option (Int × Sg) :=
  (gfI u 4 127 v0).bind fun x1 =>
  if (w32 v2) = 2 then
    f3_judge_b183 G x1 1 u
  else
    f3_judge_b183 G x1 0 u
noncomputable def f3_judge_b124 (G : CG) (v0 : Option Nat) (v2 : Int) (u : Sg) : Option (Int × Sg) :=
  (f3_judge_l127 G v0 v2 NN 0 u).bind fun q1 =>
  f3_judge_b169 G v0 v2 q1
noncomputable def f3_judge (G : CG) (v0 : Option Nat) (v1 : Option Nat) (v2 : Int) (v3 : Option Nat) (u : Sg) : Option (Int × Sg) :=
  (pfI G.2.2.2.1 u 4 127 v0 0).bind fun u1 =>
  (gfI u1 4 121 v0).bind fun x2 =>
  (pfI G.2.2.2.1 u1 4 128 v0 x2).bind fun u3 =>
  (f3_judge_l16 G v0 v1 v2 v3 NN 0 u3).bind fun q4 =>
  f3_judge_b124 G v0 v2 q4
noncomputable def f7_law_b43 (G : CG) (v0 : Option Nat) (s0 : Int) (u : Sg) : Option (((Nat ⊕ (Int)) × Sg) × Nat × Nat) :=
  if 0 ≤ (w32 s0) then
    (ztg u 8 v0).bind fun b1 =>
    bdU (f7_next G (some b1) u) fun q2 => tel q2.1 (fun e3 => xth e3 q2.2) fun x4 =>
    (gfR q2.2 8 290 v0).bind fun x5 =>
    (ztg q2.2 8 v0).bind fun b6 =>
    bdU (kr G 100 0 (some b6) 0 q2.2) fun q7 => tel q7.1 (fun e8 => xth e8 q7.2) fun x9 =>
    (pfR G.2.2.2.1 q7.2 1 4 x5 x9).bind fun u10 =>
    (ztg u10 8 v0).bind fun b11 =>
    bdU (f7_wantKind G (some b11) 0 u10) fun q12 => tel q12.1 (fun e13 => xth e13 q12.2) fun x14 =>
    some ((.inr s0, q12.2), 0, 0)
  else
    bdU (zNew u 9 8) fun q15 =>
    (gfI q15.2 8 282 v0).bind fun x16 =>
    (f8_init G (some q15.1) 2 x16 q15.2).bind fun u17 =>
    xth q15.1 u17
noncomputable def f7_law (G : CG) (v0 : Option Nat) (u : Sg) : Option (((Nat ⊕ (Int)) × Sg) × Nat × Nat) :=
  (ztg u 8 v0).bind fun b1 =>
  (f7_is G (some b1) 107118487239027 u).bind fun x2 =>
  if (w32 x2) = 0 then
    (ztg u 8 v0).bind fun b3 =>
    (f7_is G (some b3) 474148660594 u).bind fun x4 =>
    if (w32 x4) = 0 then
      (ztg u 8 v0).bind fun b5 =>
      (f7_is G (some b5) 7168377 u).bind fun x6 =>
      if (w32 x6) = 0 then
        f7_law_b43 G v0 (-1) u
      else
        f7_law_b43 G v0 2 u
    else
      f7_law_b43 G v0 1 u
  else
    f7_law_b43 G v0 0 u
noncomputable def f0_judge_b88 (G : CG) (v0 : Option Nat) (v2 : Int) (u : Sg) : Option ((Int × Sg) × Nat × Nat) :=
  (pfI G.2.2.2.1 u 1 2 v0 0).bind fun u1 =>
  some ((v2, u1), 0, 0)
noncomputable def f0_judge_b77 (G : CG) (v0 : Option Nat) (s0 : Int) (u : Sg) : Option ((Int × Sg) × Nat × Nat) :=
  f0_judge_b88 G v0 s0 u
noncomputable def f0_judge_b81 (G : CG) (v0 : Option Nat) (s0 : Option Nat) (u : Sg) : Option ((Int × Sg) × Nat × Nat) :=
  (ztg u 1 v0).bind fun b1 =>
  (f0_failed G (some b1) s0 u).bind fun q2 =>
  f0_judge_b88 G v0 q2.1 q2.2
noncomputable def f0_judge (G : CG) (v0 : Option Nat) (v1 : Int) (u : Sg) : Option ((Int × Sg) × Nat × Nat) :=
  (ztg u 1 v0).bind fun b1 =>
  (f0_isWording G (some b1) v1 u).bind fun x2 =>
  if (w32 x2) = 0 then
    some (((-1), u), 0, 0)
  else
    (pfI G.2.2.2.1 u 1 3 v0 (-1)).bind fun u3 =>
    bdU (zNew u3 8 11) fun q4 =>
    (ztg q4.2 1 v0).bind fun b5 =>
    (f0_the G (some b5) v1 q4.2).bind fun x6 =>
    bdU (f7_init G (some q4.1) v0 x6 300 q4.2) fun q7 => tel q7.1 (fun e8 => (ztg q7.2 9 (some e8)).bind fun b28 =>
        f0_judge_b81 G v0 (some e8) q7.2) fun x9 =>
    (ztg q7.2 8 (some q4.1)).bind fun b10 =>
    bdU (f7_law G (some b10) q7.2) fun q11 => tel q11.1 (fun e12 => (ztg q11.2 9 (some e12)).bind fun b27 =>
        f0_judge_b81 G v0 (some e12) q11.2) fun x13 =>
    (gfR q11.2 1 15 v0).bind fun x14 =>
    (ztg q11.2 1 v0).bind fun b15 =>
    (f0_the G (some b15) v1 q11.2).bind fun x16 =>
    (gfR q11.2 1 4 v0).bind fun x17 =>
    (ztg q11.2 4 x14).bind fun b18 =>
    (f3_isParted G (some b18) x16 none x17 q11.2).bind fun q19 =>
    if (w32 q19.1) = 0 then
      f0_judge_b77 G v0 (-4) q19.2
    else
      (gfR q19.2 1 15 v0).bind fun x20 =>
      (ztg q19.2 1 v0).bind fun b21 =>
      (f0_the G (some b21) v1 q19.2).bind fun x22 =>
      (gfR q19.2 1 4 v0).bind fun x23 =>
      (ztg q19.2 4 x20).bind fun b24 =>
      (f3_judge G (some b24) x22 x13 x23 q19.2).bind fun q25 =>
      f0_judge_b77 G v0 q25.1 q25.2
noncomputable def f0_shown (G : CG) (v0 : Option Nat) (v1 : Int) (u : Sg) : Option (Int) :=
  (gfR u 1 15 v0).bind fun x1 =>
  (gfI u 4 127 x1).bind fun x2 =>
  if (w32 x2) = 0 then
    some (-3)
  else
    if (w32 v1) < 0 then
      some (-1)
    else
      (gfR u 1 15 v0).bind fun x3 =>
      (gfI u 4 128 x3).bind fun x4 =>
      if (w32 v1) < (w32 x4) then
        (gfR u 1 15 v0).bind fun x5 =>
        (gfR u 4 126 x5).bind fun x6 =>
        (alI u 1 x6 v1).bind fun x7 =>
        some x7
      else
        some (-1)
noncomputable def f19_init (G : CG) (v0 : Option Nat) (v1 : Int) (u : Sg) : Option ((Sg) × Nat × Nat) :=
  v0.bind fun b1 =>
  bdU (zNewA u 1 v1) fun q2 =>
  (pfR G.2.2.2.1 q2.2 20 760 (some b1) (some q2.1)).bind fun u3 =>
  bdU (zNewA u3 1 v1) fun q4 =>
  (pfR G.2.2.2.1 q4.2 20 761 (some b1) (some q4.1)).bind fun u5 =>
  some (u5, 0, 0)
noncomputable def f18_init_l22 (G : CG) (v0 : Option Nat) (v1 : Option Nat) : Nat → Int → Sg → Option ((Sg) × Nat × Nat)
  | 0, _, _ => none
  | n + 1, v2, u =>
    (gfR u 7 240 v1).bind fun x1 =>
    (ztg u 6 x1).bind fun b2 =>
    (fJ2_size G (some b2) u).bind fun x3 =>
    if (w32 x3) ≤ (w32 v2) then
      some (u, 0, 0)
    else
      (gfR u 19 721 v0).bind fun x4 =>
      bdU (zNew u 20 3) fun q5 =>
      bdU (f19_init G (some q5.1) 6 q5.2) fun q6 =>
      (ztg q6 6 x4).bind fun b7 =>
      bdU (fJ2_add G (some b7) (some q5.1) q6) fun q8 =>
      f18_init_l22 G v0 v1 n (v2 + 1) q8.2
noncomputable def f18_init (G : CG) (v0 : Option Nat) (v1 : Option Nat) (u : Sg) : Option ((Sg) × Nat × Nat) :=
  v0.bind fun b1 =>
  bdU (zNew u 6 3) fun q2 =>
  (fJ2_init G (some q2.1) q2.2).bind fun u3 =>
  (pfR G.2.2.2.1 u3 19 721 (some b1) (some q2.1)).bind fun u4 =>
  (pfR G.2.2.2.1 u4 19 720 (some b1) v1).bind fun u5 =>
  bdU (f18_init_l22 G (some b1) v1 NN 0 u5) fun q6 =>
  some (q6, 0, 0)
noncomputable def f0_event (G : CG) (v0 : Option Nat) (v1 : Int) (u : Sg) : Option ((Int × Sg) × Nat × Nat) :=
  (ztg u 1 v0).bind fun b1 =>
  (f0_isWording G (some b1) v1 u).bind fun x2 =>
  if (w32 x2) = 0 then
    some (((-1), u), 0, 0)
  else
    (gfR u 1 6 v0).bind fun x3 =>
    (ztg u 6 x3).bind fun b4 =>
    (fJ2_size G (some b4) u).bind fun x5 =>
    if (w32 x5) = 32 then
      some (((-4), u), 0, 0)
    else
      (gfR u 1 6 v0).bind fun x6 =>
      bdU (zNew u 19 2) fun q7 =>
      (ztg q7.2 1 v0).bind fun b8 =>
      (f0_the G (some b8) v1 q7.2).bind fun x9 =>
      bdU (f18_init G (some q7.1) x9 q7.2) fun q10 =>
      (ztg q10 6 x6).bind fun b11 =>
      bdU (fJ2_add G (some b11) (some q7.1) q10) fun q12 =>
      (gfR q12.2 1 6 v0).bind fun x13 =>
      (ztg q12.2 6 x13).bind fun b14 =>
      (fJ2_size G (some b14) q12.2).bind fun x15 =>
      some ((x15, q12.2), 0, 0)
noncomputable def f0_isDay (v0 : Int) : Option (Int) :=
  if (w32 v0) < 0 then
    some 0
  else
    if 9999 < (w32 v0) then
      some 0
    else
      some 1
noncomputable def f0_isEvent (G : CG) (v0 : Option Nat) (v1 : Int) (u : Sg) : Option (Int) :=
  if (w32 v1) ≤ 0 then
    some 0
  else
    (gfR u 1 6 v0).bind fun x1 =>
    (ztg u 6 x1).bind fun b2 =>
    (fJ2_size G (some b2) u).bind fun x3 =>
    if (w32 x3) < (w32 v1) then
      some 0
    else
      some 1
noncomputable def f0_isFact (G : CG) (v0 : Option Nat) (v1 : Int) (v2 : Int) (u : Sg) : Option (Int) :=
  (ztg u 1 v0).bind fun b1 =>
  (f0_isEvent G (some b1) v1 u).bind fun x2 =>
  if (w32 x2) = 0 then
    some 0
  else
    if (w32 v2) < 0 then
      some 0
    else
      (gfR u 1 6 v0).bind fun x3 =>
      (ztg u 6 x3).bind fun b4 =>
      (fJ2_get G (some b4) (v1 - 1) u).bind fun x5 =>
      (zcast u [19] x5).bind fun y6 =>
      (gfR u 19 721 x5).bind fun x7 =>
      (ztg u 6 x7).bind fun b8 =>
      (fJ2_size G (some b8) u).bind fun x9 =>
      if (w32 x9) ≤ (w32 v2) then
        some 0
      else
        some 1
noncomputable def f9_has (G : CG) (v0 : Option Nat) (v1 : Int) (u : Sg) : Option (Int) :=
  (gfI u 10 364 v0).bind fun x1 =>
  if (w32 v1) < (w32 x1) then
    some 0
  else
    (gfI u 10 365 v0).bind fun x2 =>
    if (w32 x2) < (w32 v1) then
      some 0
    else
      some 1
noncomputable def f19_add (G : CG) (v0 : Option Nat) (v1 : Int) (v2 : Int) (u : Sg) : Option (Sg) :=
  (gfR u 20 760 v0).bind fun x1 =>
  (gfI u 20 762 v0).bind fun x2 =>
  (asI G.2.2.2.1 u 1 x1 x2 v1).bind fun u3 =>
  (gfR u3 20 761 v0).bind fun x4 =>
  (gfI u3 20 762 v0).bind fun x5 =>
  (pfI G.2.2.2.1 u3 20 762 v0 (x5 + 1)).bind fun u6 =>
  (asI G.2.2.2.1 u6 1 x4 x5 v2).bind fun u7 =>
  some u7
noncomputable def f0_tell_b53 (G : CG) (v0 : Option Nat) (v1 : Int) (v2 : Int) (v3 : Int) (v4 : Int) (u : Sg) : Option (Int × Sg) :=
  (f0_isDay v4).bind fun x1 =>
  if (w32 x1) = 0 then
    some ((-2), u)
  else
    (gfR u 1 6 v0).bind fun x2 =>
    (ztg u 6 x2).bind fun b3 =>
    (fJ2_get G (some b3) (v1 - 1) u).bind fun x4 =>
    (zcast u [19] x4).bind fun y5 =>
    (gfR u 19 721 x4).bind fun x6 =>
    (ztg u 6 x6).bind fun b7 =>
    (fJ2_get G (some b7) v2 u).bind fun x8 =>
    (zcast u [20] x8).bind fun y9 =>
    (gfI u 20 762 x8).bind fun x10 =>
    if (w32 x10) = 6 then
      some ((-4), u)
    else
      (ztg u 20 x8).bind fun b11 =>
      (f19_add G (some b11) v3 v4 u).bind fun u12 =>
      (gfI u12 20 762 x8).bind fun x13 =>
      some (x13, u12)
noncomputable def f0_tell (G : CG) (v0 : Option Nat) (v1 : Int) (v2 : Int) (v3 : Int) (v4 : Int) (u : Sg) : Option (Int × Sg) :=
  (ztg u 1 v0).bind fun b1 =>
  (f0_isFact G (some b1) v1 v2 u).bind fun x2 =>
  if (w32 x2) = 0 then
    some ((-1), u)
  else
    if (w32 v3) = (-1) then
      f0_tell_b53 G v0 v1 v2 v3 v4 u
    else
      (gfR u 1 6 v0).bind fun x3 =>
      (ztg u 6 x3).bind fun b4 =>
      (fJ2_get G (some b4) (v1 - 1) u).bind fun x5 =>
      (zcast u [19] x5).bind fun y6 =>
      (gfR u 19 720 x5).bind fun x7 =>
      (gfR u 7 240 x7).bind fun x8 =>
      (ztg u 6 x8).bind fun b9 =>
      (fJ2_get G (some b9) v2 u).bind fun x10 =>
      (zcast u [10] x10).bind fun y11 =>
      (ztg u 10 x10).bind fun b12 =>
      (f9_has G (some b12) v3 u).bind fun x13 =>
      if (w32 x13) = 0 then
        some ((-2), u)
      else
        f0_tell_b53 G v0 v1 v2 v3 v4 u
noncomputable def f19_on_b45 (G : CG) (kh : Int → Int → Option (Int)) (v0 : Option Nat) (v1 : Int) (v2 : Int) (v4 : Int) (u : Sg) : Option (Int) :=
  kh v4 (v4 + 1)
noncomputable def f19_on_l5 (G : CG) (v0 : Option Nat) (v1 : Int) (v2 : Int) (u : Sg) : Nat → Int → Int → Option (Int)
  | 0, _, _ => none
  | n + 1, v3, v4 =>
    (gfI u 20 762 v0).bind fun x1 =>
    if (w32 x1) ≤ (w32 v4) then
      some v3
    else
      (gfR u 20 761 v0).bind fun x2 =>
      (alI u 1 x2 v4).bind fun x3 =>
      if (w32 v1) < (w32 x3) then
        f19_on_l5 G v0 v1 v2 u n v3 (v4 + 1)
      else
        if (w32 v3) < 0 then
          f19_on_b45 G (f19_on_l5 G v0 v1 v2 u n) v0 v1 v2 v4 u
        else
          (gfR u 20 761 v0).bind fun x4 =>
          (alI u 1 x4 v4).bind fun x5 =>
          (gfR u 20 761 v0).bind fun x6 =>
          (alI u 1 x6 v3).bind fun x7 =>
          if (w32 x5) < (w32 x7) then
            f19_on_l5 G v0 v1 v2 u n v3 (v4 + 1)
          else
            f19_on_b45 G (f19_on_l5 G v0 v1 v2 u n) v0 v1 v2 v4 u
noncomputable def f19_on (G : CG) (v0 : Option Nat) (v1 : Int) (v2 : Int) (u : Sg) : Option (Int) :=
  (f19_on_l5 G v0 v1 v2 u NN (-1) 0).bind fun q1 =>
  if 0 ≤ (w32 q1) then
    (gfR u 20 760 v0).bind fun x2 =>
    (alI u 1 x2 q1).bind fun x3 =>
    some x3
  else
    some v2
noncomputable def f0_fact (G : CG) (v0 : Option Nat) (v1 : Int) (v2 : Int) (v3 : Int) (u : Sg) : Option (Int) :=
  (ztg u 1 v0).bind fun b1 =>
  (f0_isFact G (some b1) v1 v2 u).bind fun x2 =>
  if (w32 x2) = 0 then
    some (-1)
  else
    (f0_isDay v3).bind fun x3 =>
    if (w32 x3) = 0 then
      some (-2)
    else
      (gfR u 1 6 v0).bind fun x4 =>
      (ztg u 6 x4).bind fun b5 =>
      (fJ2_get G (some b5) (v1 - 1) u).bind fun x6 =>
      (zcast u [19] x6).bind fun y7 =>
      (gfR u 19 721 x6).bind fun x8 =>
      (ztg u 6 x8).bind fun b9 =>
      (fJ2_get G (some b9) v2 u).bind fun x10 =>
      (zcast u [20] x10).bind fun y11 =>
      (ztg u 20 x10).bind fun b12 =>
      (f19_on G (some b12) v3 (-1) u).bind fun x13 =>
      some x13
noncomputable def f2_set_b105 (G : CG) (kh : Int → Int → Sg → Option (Sg)) (v0 : Option Nat) (v1 : Option Nat) (v2 : Option Nat) (v3 : Int) (v4 : Int) (v5 : Int) (s0 : Option Nat) (s1 : Int) (s2 : Int) (u : Sg) : Option (Sg) :=
  (pfI G.2.2.2.1 u 3 82 s0 (or32 s1 s2)).bind fun u1 =>
  (gfR u1 3 83 v0).bind fun x2 =>
  (asI G.2.2.2.1 u1 1 x2 v5 v4).bind fun u3 =>
  (gfR u3 7 250 v1).bind fun x4 =>
  (ztg u3 6 x4).bind fun b5 =>
  (fJ2_get G (some b5) v5 u3).bind fun x6 =>
  (zcast u3 [5] x6).bind fun y7 =>
  (gfI u3 5 161 x6).bind fun x8 =>
  kh (v4 * x8) (v5 + (-1)) u3
noncomputable def f2_set_b86 (G : CG) (kh : Int → Int → Sg → Option (Sg)) (v0 : Option Nat) (v1 : Option Nat) (v2 : Option Nat) (v3 : Int) (v4 : Int) (v5 : Int) (v6 : Int) (s0 : Option Nat) (s1 : Int) (s2 : Int) (u : Sg) : Option (Sg) :=
  (asI G.2.2.2.1 u 1 s0 s1 s2).bind fun u1 =>
  (gfI u1 3 82 v0).bind fun x2 =>
  if 0 ≤ (w32 v6) then
    f2_set_b105 G (kh) v0 v1 v2 v3 v4 v5 v0 x2 (shl32 1 v5) u1
  else
    f2_set_b105 G (kh) v0 v1 v2 v3 v4 v5 v0 x2 0 u1
noncomputable def f2_set_l26 (G : CG) (v0 : Option Nat) (v1 : Option Nat) (v2 : Option Nat) (v3 : Int) : Nat → Int → Int → Sg → Option (Sg)
  | 0, _, _, _ => none
  | n + 1, v4, v5, u =>
    if (w32 v5) < 0 then
      some u
    else
      (gfR u 19 721 v2).bind fun x1 =>
      (ztg u 6 x1).bind fun b2 =>
      (fJ2_get G (some b2) v5 u).bind fun x3 =>
      (zcast u [20] x3).bind fun y4 =>
      (ztg u 20 x3).bind fun b5 =>
      (f19_on G (some b5) v3 (-1) u).bind fun x6 =>
      (gfR u 3 81 v0).bind fun x7 =>
      if 0 ≤ (w32 x6) then
        (gfR u 7 250 v1).bind fun x8 =>
        (ztg u 6 x8).bind fun b9 =>
        (fJ2_get G (some b9) v5 u).bind fun x10 =>
        (zcast u [5] x10).bind fun y11 =>
        (ztg u 5 x10).bind fun b12 =>
        (f4_cell G (some b12) x6 u).bind fun x13 =>
        f2_set_b86 G (f2_set_l26 G v0 v1 v2 v3 n) v0 v1 v2 v3 v4 v5 x6 x7 v5 x13 u
      else
        f2_set_b86 G (f2_set_l26 G v0 v1 v2 v3 n) v0 v1 v2 v3 v4 v5 x6 x7 v5 (-1) u
noncomputable def f2_set (G : CG) (v0 : Option Nat) (v1 : Option Nat) (v2 : Option Nat) (v3 : Int) (u : Sg) : Option (Sg) :=
  (pfR G.2.2.2.1 u 3 80 v0 v1).bind fun u1 =>
  (pfI G.2.2.2.1 u1 3 82 v0 0).bind fun u2 =>
  (gfR u2 7 240 v1).bind fun x3 =>
  (ztg u2 6 x3).bind fun b4 =>
  (fJ2_size G (some b4) u2).bind fun x5 =>
  (f2_set_l26 G v0 v1 v2 v3 NN 1 (x5 - 1) u2).bind fun q6 =>
  some q6
noncomputable def f0_look (G : CG) (v0 : Option Nat) (v1 : Int) (v2 : Int) (u : Sg) : Option (Int × Sg) :=
  (ztg u 1 v0).bind fun b1 =>
  (f0_isEvent G (some b1) v1 u).bind fun x2 =>
  if (w32 x2) = 0 then
    some ((-1), u)
  else
    (f0_isDay v2).bind fun x3 =>
    if (w32 x3) = 0 then
      some ((-2), u)
    else
      (gfR u 1 6 v0).bind fun x4 =>
      (ztg u 6 x4).bind fun b5 =>
      (fJ2_get G (some b5) (v1 - 1) u).bind fun x6 =>
      (zcast u [19] x6).bind fun y7 =>
      (gfR u 1 14 v0).bind fun x8 =>
      (gfR u 19 720 x6).bind fun x9 =>
      (ztg u 3 x8).bind fun b10 =>
      (f2_set G (some b10) x9 x6 v2 u).bind fun u11 =>
      some (0, u11)
noncomputable def f2_answer (G : CG) (v0 : Option Nat) (u : Sg) : Option (Int) :=
  (gfR u 3 84 v0).bind fun x1 =>
  (alI u 1 x1 0).bind fun x2 =>
  if (w32 x2) = 0 then
    some 1
  else
    (gfR u 3 84 v0).bind fun x3 =>
    (alI u 1 x3 1).bind fun x4 =>
    if (w32 x4) = 0 then
      some 0
    else
      some 2
noncomputable def f2_isOne_l2 (G : CG) (v0 : Option Nat) (v1 : Int) (v2 : Int) (u : Sg) : Nat → Int → Option ((Unit) ⊕ (Unit))
  | 0, _ => none
  | n + 1, v3 =>
    (gfR u 3 80 v0).bind fun x1 =>
    (gfR u 7 240 x1).bind fun x2 =>
    (ztg u 6 x2).bind fun b3 =>
    (fJ2_size G (some b3) u).bind fun x4 =>
    if (w32 x4) ≤ (w32 v3) then
      some (.inr ())
    else
      if (w32 (and32 (shr32 v2 v3) 1)) = 1 then
        (gfR u 3 83 v0).bind fun x5 =>
        (alI u 1 x5 v3).bind fun x6 =>
        if w32 x6 = 0 then none else
        (gfR u 3 80 v0).bind fun x8 =>
        (gfR u 7 250 x8).bind fun x9 =>
        (ztg u 6 x9).bind fun b10 =>
        (fJ2_get G (some b10) v3 u).bind fun x11 =>
        (zcast u [5] x11).bind fun y12 =>
        (gfI u 5 161 x11).bind fun x13 =>
        if w32 x13 = 0 then none else
        (gfR u 3 81 v0).bind fun x15 =>
        (alI u 1 x15 v3).bind fun x16 =>
        if (w32 (rem32 (div32 v1 x6) x13)) = (w32 x16) then
          f2_isOne_l2 G v0 v1 v2 u n (v3 + 1)
        else
          some (.inl ())
      else
        f2_isOne_l2 G v0 v1 v2 u n (v3 + 1)
noncomputable def f2_isOne (G : CG) (v0 : Option Nat) (v1 : Int) (v2 : Int) (u : Sg) : Option (Int) :=
  (f2_isOne_l2 G v0 v1 v2 u NN 0).bind
    (Sum.elim
      (fun q1 =>
        some 0)
      (fun q2 =>
        some 1))
noncomputable def f2_count_l16 (G : CG) (v0 : Option Nat) (v1 : Int) : Nat → Int → Sg → Option (Sg)
  | 0, _, _ => none
  | n + 1, v2, u =>
    (gfR u 3 80 v0).bind fun x1 =>
    (gfI u 7 251 x1).bind fun x2 =>
    if (w32 x2) ≤ (w32 v2) then
      some u
    else
      (ztg u 3 v0).bind fun b3 =>
      (f2_isOne G (some b3) v2 v1 u).bind fun x4 =>
      if (w32 x4) = 0 then
        f2_count_l16 G v0 v1 n (v2 + 1) u
      else
        (gfR u 3 84 v0).bind fun x5 =>
        (gfR u 3 80 v0).bind fun x6 =>
        (gfR u 7 252 x6).bind fun x7 =>
        (alI u 2 x7 v2).bind fun x8 =>
        (alI u 1 x5 x8).bind fun x9 =>
        (asI G.2.2.2.1 u 1 x5 x8 (x9 + 1)).bind fun u10 =>
        f2_count_l16 G v0 v1 n (v2 + 1) u10
noncomputable def f2_count (G : CG) (v0 : Option Nat) (v1 : Int) (u : Sg) : Option (Sg) :=
  (gfR u 3 84 v0).bind fun x1 =>
  (asI G.2.2.2.1 u 1 x1 0 0).bind fun u2 =>
  (gfR u2 3 84 v0).bind fun x3 =>
  (asI G.2.2.2.1 u2 1 x3 1 0).bind fun u4 =>
  (f2_count_l16 G v0 v1 NN 0 u4).bind fun q5 =>
  some q5
noncomputable def f2_answerBy (G : CG) (v0 : Option Nat) (v1 : Int) (u : Sg) : Option (Int × Sg) :=
  (ztg u 3 v0).bind fun b1 =>
  (f2_count G (some b1) v1 u).bind fun u2 =>
  (ztg u2 3 v0).bind fun b3 =>
  (f2_answer G (some b3) u2).bind fun x4 =>
  some (x4, u2)
noncomputable def f0_covers (G : CG) (v0 : Option Nat) (v1 : Int) (v2 : Int) (u : Sg) : Option (Int × Sg) :=
  (ztg u 1 v0).bind fun b1 =>
  (f0_look G (some b1) v1 v2 u).bind fun q2 =>
  if 0 ≤ (w32 q2.1) then
    (gfR q2.2 1 14 v0).bind fun x3 =>
    (gfR q2.2 1 14 v0).bind fun x4 =>
    (gfI q2.2 3 82 x4).bind fun x5 =>
    (ztg q2.2 3 x3).bind fun b6 =>
    (f2_answerBy G (some b6) x5 q2.2).bind fun q7 =>
    some (q7.1, q7.2)
  else
    some (q2.1, q2.2)
noncomputable def f2_isBefore (G : CG) (v0 : Option Nat) (v1 : Int) (v2 : Int) (u : Sg) : Option (Int) :=
  if 0 ≤ (w32 v2) then
    (fJ16_bitCount v1).bind fun x1 =>
    (fJ16_bitCount v2).bind fun x2 =>
    if (w32 (x1 - x2)) < 0 then
      some 1
    else
      if (w32 (x1 - x2)) = 0 then
        (fJ16_lowestOneBit (xor32 v1 v2)).bind fun x3 =>
        if (w32 (and32 v1 x3)) = 0 then
          some 0
        else
          some 1
      else
        some 0
  else
    some 1
noncomputable def f2_settles_l2 (G : CG) (v0 : Option Nat) (v1 : Int) : Nat → Int → Sg → Option (Sg)
  | 0, _, _ => none
  | n + 1, v2, u =>
    (gfR u 3 80 v0).bind fun x1 =>
    (gfI u 7 251 x1).bind fun x2 =>
    if (w32 x2) ≤ (w32 v2) then
      some u
    else
      (gfR u 3 85 v0).bind fun x3 =>
      (asI G.2.2.2.1 u 2 x3 v2 (w8 (-1))).bind fun u4 =>
      f2_settles_l2 G v0 v1 n (v2 + 1) u4
noncomputable def f2_settles_l59 (G : CG) (v0 : Option Nat) (v1 : Int) (v2 : Int) (u : Sg) : Nat → Int → Int → Option (Int)
  | 0, _, _ => none
  | n + 1, v3, v4 =>
    (gfR u 3 80 v0).bind fun x1 =>
    (gfR u 7 240 x1).bind fun x2 =>
    (ztg u 6 x2).bind fun b3 =>
    (fJ2_size G (some b3) u).bind fun x4 =>
    if (w32 x4) ≤ (w32 v4) then
      some v3
    else
      if (w32 (and32 (shr32 v1 v4) 1)) = 1 then
        (gfR u 3 83 v0).bind fun x5 =>
        (alI u 1 x5 v4).bind fun x6 =>
        if w32 x6 = 0 then none else
        (gfR u 3 80 v0).bind fun x8 =>
        (gfR u 7 250 x8).bind fun x9 =>
        (ztg u 6 x9).bind fun b10 =>
        (fJ2_get G (some b10) v4 u).bind fun x11 =>
        (zcast u [5] x11).bind fun y12 =>
        (gfI u 5 161 x11).bind fun x13 =>
        if w32 x13 = 0 then none else
        (gfR u 3 83 v0).bind fun x15 =>
        (alI u 1 x15 v4).bind fun x16 =>
        f2_settles_l59 G v0 v1 v2 u n (v3 + ((rem32 (div32 v2 x6) x13) * x16)) (v4 + 1)
      else
        f2_settles_l59 G v0 v1 v2 u n v3 (v4 + 1)
noncomputable def f2_settles_b162 (G : CG) (kh : Int → Sg → Option ((Sg) ⊕ (Sg))) (v0 : Option Nat) (v1 : Int) (v2 : Int) (v3 : Int) (u : Sg) : Option ((Sg) ⊕ (Sg)) :=
  (gfR u 3 85 v0).bind fun x1 =>
  (gfR u 3 80 v0).bind fun x2 =>
  (gfR u 7 252 x2).bind fun x3 =>
  (alI u 2 x3 v2).bind fun x4 =>
  (asI G.2.2.2.1 u 2 x1 v3 (w8 x4)).bind fun u5 =>
  kh (v2 + 1) u5
noncomputable def f2_settles_l28 (G : CG) (v0 : Option Nat) (v1 : Int) : Nat → Int → Sg → Option ((Sg) ⊕ (Sg))
  | 0, _, _ => none
  | n + 1, v2, u =>
    (gfR u 3 80 v0).bind fun x1 =>
    (gfI u 7 251 x1).bind fun x2 =>
    if (w32 x2) ≤ (w32 v2) then
      some (.inr u)
    else
      (gfI u 3 82 v0).bind fun x3 =>
      (ztg u 3 v0).bind fun b4 =>
      (f2_isOne G (some b4) v2 x3 u).bind fun x5 =>
      if (w32 x5) = 0 then
        f2_settles_l28 G v0 v1 n (v2 + 1) u
      else
        (f2_settles_l59 G v0 v1 v2 u NN 0 0).bind fun q6 =>
        (gfR u 3 85 v0).bind fun x7 =>
        (alI u 2 x7 q6).bind fun x8 =>
        if (w32 x8) < 0 then
          f2_settles_b162 G (f2_settles_l28 G v0 v1 n) v0 v1 v2 q6 u
        else
          (gfR u 3 85 v0).bind fun x9 =>
          (alI u 2 x9 q6).bind fun x10 =>
          (gfR u 3 80 v0).bind fun x11 =>
          (gfR u 7 252 x11).bind fun x12 =>
          (alI u 2 x12 v2).bind fun x13 =>
          if (w32 x10) = (w32 x13) then
            f2_settles_b162 G (f2_settles_l28 G v0 v1 n) v0 v1 v2 q6 u
          else
            some (.inl u)
noncomputable def f2_settles (G : CG) (v0 : Option Nat) (v1 : Int) (u : Sg) : Option (Int × Sg) :=
  (f2_settles_l2 G v0 v1 NN 0 u).bind fun q1 =>
  (f2_settles_l28 G v0 v1 NN 0 q1).bind
    (Sum.elim
      (fun q2 =>
        some (0, q2))
      (fun q3 =>
        some (1, q3)))
noncomputable def f2_least_b98 (G : CG) (kh : Int → Int → Sg → Option (Int × Sg)) (v0 : Option Nat) (v1 : Int) (v2 : Int) (v3 : Int) (v5 : Int) (u : Sg) : Option (Int × Sg) :=
  kh v5 (v5 + 1) u
noncomputable def f2_least_l43 (G : CG) (v0 : Option Nat) (v1 : Int) (v2 : Int) (v3 : Int) : Nat → Int → Int → Sg → Option (Int × Sg)
  | 0, _, _, _ => none
  | n + 1, v4, v5, u =>
    if (w32 v2) < (w32 v5) then
      some (v4, u)
    else
      if (w32 (and32 v5 (xor32 v3 (-1)))) = 0 then
        (ztg u 3 v0).bind fun b1 =>
        (f2_isBefore G (some b1) v5 v4 u).bind fun x2 =>
        if (w32 x2) = 0 then
          f2_least_l43 G v0 v1 v2 v3 n v4 (v5 + 1) u
        else
          if (w32 v1) = 0 then
            (ztg u 3 v0).bind fun b3 =>
            (f2_settles G (some b3) v5 u).bind fun q4 =>
            if (w32 q4.1) = 0 then
              f2_least_l43 G v0 v1 v2 v3 n v4 (v5 + 1) q4.2
            else
              f2_least_b98 G (f2_least_l43 G v0 v1 v2 v3 n) v0 v1 v2 v3 v5 q4.2
          else
            (ztg u 3 v0).bind fun b6 =>
            (f2_answerBy G (some b6) v5 u).bind fun q7 =>
            if (w32 q7.1) = 2 then
              f2_least_l43 G v0 v1 v2 v3 n v4 (v5 + 1) q7.2
            else
              f2_least_b98 G (f2_least_l43 G v0 v1 v2 v3 n) v0 v1 v2 v3 v5 q7.2
      else
        f2_least_l43 G v0 v1 v2 v3 n v4 (v5 + 1) u
noncomputable def f2_least_b36 (G : CG) (v0 : Option Nat) (v1 : Int) (v2 : Int) (s0 : Int) (u : Sg) : Option (Int × Sg) :=
  (f2_least_l43 G v0 v1 v2 s0 NN (-1) 0 u).bind fun q1 =>
  some (q1.1, q1.2)
noncomputable def f2_least (G : CG) (v0 : Option Nat) (v1 : Int) (u : Sg) : Option (Int × Sg) :=
  (gfR u 3 80 v0).bind fun x1 =>
  (gfR u 7 240 x1).bind fun x2 =>
  (ztg u 6 x2).bind fun b3 =>
  (fJ2_size G (some b3) u).bind fun x4 =>
  if (w32 v1) = 0 then
    (gfI u 3 82 v0).bind fun x5 =>
    f2_least_b36 G v0 v1 ((shl32 1 x4) - 1) (and32 ((shl32 1 x4) - 1) (xor32 x5 (-1))) u
  else
    (gfI u 3 82 v0).bind fun x6 =>
    f2_least_b36 G v0 v1 ((shl32 1 x4) - 1) x6 u
noncomputable def f0_settles (G : CG) (v0 : Option Nat) (v1 : Int) (v2 : Int) (u : Sg) : Option (Int × Sg) :=
  (ztg u 1 v0).bind fun b1 =>
  (f0_look G (some b1) v1 v2 u).bind fun q2 =>
  if 0 ≤ (w32 q2.1) then
    (gfR q2.2 1 14 v0).bind fun x3 =>
    (ztg q2.2 3 x3).bind fun b4 =>
    (f2_least G (some b4) 0 q2.2).bind fun q5 =>
    some (q5.1, q5.2)
  else
    some (q2.1, q2.2)
noncomputable def f0_because (G : CG) (v0 : Option Nat) (v1 : Int) (v2 : Int) (u : Sg) : Option (Int × Sg) :=
  (ztg u 1 v0).bind fun b1 =>
  (f0_look G (some b1) v1 v2 u).bind fun q2 =>
  if 0 ≤ (w32 q2.1) then
    (gfR q2.2 1 14 v0).bind fun x3 =>
    (gfR q2.2 1 14 v0).bind fun x4 =>
    (gfI q2.2 3 82 x4).bind fun x5 =>
    (ztg q2.2 3 x3).bind fun b6 =>
    (f2_answerBy G (some b6) x5 q2.2).bind fun q7 =>
    if (w32 q7.1) = 2 then
      some ((-3), q7.2)
    else
      (gfR q7.2 1 14 v0).bind fun x8 =>
      (ztg q7.2 3 x8).bind fun b9 =>
      (f2_least G (some b9) 1 q7.2).bind fun q10 =>
      some (q10.1, q10.2)
  else
    some (q2.1, q2.2)
noncomputable def f0_decider_l55 (G : CG) (v0 : Option Nat) (v4 : Option Nat) (u : Sg) : Nat → Int → Int → Option (Int)
  | 0, _, _ => none
  | n + 1, v5, v6 =>
    (gfR u 7 240 v4).bind fun x1 =>
    (ztg u 6 x1).bind fun b2 =>
    (fJ2_size G (some b2) u).bind fun x3 =>
    if (w32 x3) ≤ (w32 v6) then
      some v5
    else
      (gfR u 1 14 v0).bind fun x4 =>
      (gfR u 3 81 x4).bind fun x5 =>
      (alI u 1 x5 v6).bind fun x6 =>
      (gfR u 1 14 v0).bind fun x7 =>
      (gfR u 3 83 x7).bind fun x8 =>
      (alI u 1 x8 v6).bind fun x9 =>
      f0_decider_l55 G v0 v4 u n (v5 + (x6 * x9)) (v6 + 1)
noncomputable def f0_decider (G : CG) (v0 : Option Nat) (v1 : Int) (v2 : Int) (u : Sg) : Option (Int × Sg) :=
  (ztg u 1 v0).bind fun b1 =>
  (f0_look G (some b1) v1 v2 u).bind fun q2 =>
  if 0 ≤ (w32 q2.1) then
    (gfR q2.2 1 14 v0).bind fun x3 =>
    (gfR q2.2 3 80 x3).bind fun x4 =>
    (gfR q2.2 1 14 v0).bind fun x5 =>
    (gfI q2.2 3 82 x5).bind fun x6 =>
    (gfR q2.2 7 240 x4).bind fun x7 =>
    (ztg q2.2 6 x7).bind fun b8 =>
    (fJ2_size G (some b8) q2.2).bind fun x9 =>
    if (w32 x6) = (w32 ((shl32 1 x9) - 1)) then
      (f0_decider_l55 G v0 x4 q2.2 NN 0 0).bind fun q10 =>
      (gfR q2.2 7 253 x4).bind fun x11 =>
      (alI q2.2 2 x11 q10).bind fun x12 =>
      some (x12, q2.2)
    else
      some ((-3), q2.2)
  else
    some (q2.1, q2.2)
noncomputable def f0_ways (G : CG) (v0 : Option Nat) (v1 : Int) (v2 : Int) (v3 : Int) (u : Sg) : Option (Int × Sg) :=
  (ztg u 1 v0).bind fun b1 =>
  (f0_isEvent G (some b1) v1 u).bind fun x2 =>
  if (w32 x2) = 0 then
    some ((-1), u)
  else
    (f0_isDay v2).bind fun x3 =>
    if (w32 x3) = 0 then
      some ((-2), u)
    else
      if (w32 v3) < 0 then
        some ((-2), u)
      else
        if (w32 v3) ≤ 1 then
          (ztg u 1 v0).bind fun b4 =>
          (f0_look G (some b4) v1 v2 u).bind fun q5 =>
          (gfR q5.2 1 14 v0).bind fun x6 =>
          (gfR q5.2 1 14 v0).bind fun x7 =>
          (gfI q5.2 3 82 x7).bind fun x8 =>
          (ztg q5.2 3 x6).bind fun b9 =>
          (f2_count G (some b9) x8 q5.2).bind fun u10 =>
          (gfR u10 1 14 v0).bind fun x11 =>
          (gfR u10 3 84 x11).bind fun x12 =>
          (alI u10 1 x12 v3).bind fun x13 =>
          some (x13, u10)
        else
          some ((-2), u)
noncomputable def f0_rounded_b48 (v4 : Int) (s0 : Int) : Option (Int) :=
  if (w32 s0) = 0 then
    some v4
  else
    some (v4 + 1)
noncomputable def f0_rounded_b43 (v4 : Int) : Option (Int) :=
  f0_rounded_b48 v4 1
noncomputable def f0_rounded_b47 (v4 : Int) : Option (Int) :=
  f0_rounded_b48 v4 0
noncomputable def f0_rounded (v0 : Int) (v2 : Int) : Option (Int) :=
  if w64 v2 = 0 then none else
  if w64 v2 = 0 then none else
  if (w64 v2) < (w64 (2 * (rem64 v0 v2))) then
    f0_rounded_b43 (div64 v0 v2)
  else
    if (w64 (2 * (rem64 v0 v2))) = (w64 v2) then
      if (w64 (rem64 (div64 v0 v2) 2)) = 1 then
        f0_rounded_b43 (div64 v0 v2)
      else
        f0_rounded_b47 (div64 v0 v2)
    else
      f0_rounded_b47 (div64 v0 v2)
noncomputable def f2_truth_b27 (G : CG) (kh : Int → Int → Int → Sg → Option (Int × Int × Sg)) (v0 : Option Nat) (v1 : Option Nat) (v2 : Int) (v3 : Int) (v4 : Int) (u : Sg) : Option (Int × Int × Sg) :=
  (gfI u 3 82 v0).bind fun x1 =>
  (ztg u 3 v0).bind fun b2 =>
  (f2_isOne G (some b2) v4 x1 u).bind fun x3 =>
  if (w32 x3) = 0 then
    kh v2 v3 (v4 + 1) u
  else
    (gfR u 3 80 v0).bind fun x4 =>
    (gfR u 3 86 v0).bind fun x5 =>
    (gfR u 1 13 x5).bind fun x6 =>
    (ztg u 7 x4).bind fun b7 =>
    (f6_way G (some b7) v4 x6 u).bind fun u8 =>
    (gfR u8 3 80 v0).bind fun x9 =>
    (gfR u8 3 86 v0).bind fun x10 =>
    (gfR u8 1 13 x10).bind fun x11 =>
    (ztg u8 7 x9).bind fun b12 =>
    (f6_mean G (some b12) x11 u8).bind fun u13 =>
    (gfR u13 3 86 v0).bind fun x14 =>
    (gfR u13 1 13 x14).bind fun x15 =>
    (kv_isTrue G DD v1 x15 u13).bind fun x16 =>
    if (w32 x16) = 0 then
      kh v2 1 (v4 + 1) u13
    else
      kh 1 v3 (v4 + 1) u13
noncomputable def f2_truth_l7 (G : CG) (v0 : Option Nat) (v1 : Option Nat) : Nat → Int → Int → Int → Sg → Option (Int × Int × Sg)
  | 0, _, _, _, _ => none
  | n + 1, v2, v3, v4, u =>
    (gfR u 3 80 v0).bind fun x1 =>
    (gfI u 7 251 x1).bind fun x2 =>
    if (w32 x2) ≤ (w32 v4) then
      some (v2, v3, u)
    else
      if (w32 v2) = 0 then
        f2_truth_b27 G (f2_truth_l7 G v0 v1 n) v0 v1 v2 v3 v4 u
      else
        if (w32 v3) = 0 then
          f2_truth_b27 G (f2_truth_l7 G v0 v1 n) v0 v1 v2 v3 v4 u
        else
          some (v2, v3, u)
noncomputable def f2_truth_b112 (G : CG) (v2 : Int) (u : Sg) : Option (Int × Sg) :=
  if (w32 v2) = 0 then
    some (0, u)
  else
    some (1, u)
noncomputable def f2_truth_b100 (G : CG) (v2 : Int) (v3 : Int) (u : Sg) : Option (Int × Sg) :=
  if (w32 v2) = 0 then
    f2_truth_b112 G v2 u
  else
    if (w32 v3) = 0 then
      f2_truth_b112 G v2 u
    else
      some (2, u)
noncomputable def f2_truth (G : CG) (v0 : Option Nat) (v1 : Option Nat) (u : Sg) : Option (Int × Sg) :=
  (f2_truth_l7 G v0 v1 NN 0 0 0 u).bind fun q1 =>
  f2_truth_b100 G q1.1 q1.2.1 q1.2.2
noncomputable def f0_price_b210 (G : CG) (kh : Int → Int → Int → Sg → Option ((Int × Sg) ⊕ (Sg) ⊕ (Int × Int × Sg))) (v0 : Option Nat) (v4 : Option Nat) (v5 : Int) (v7 : Int) (v9 : Int) (v10 : Option Nat) (v11 : Int) (u : Sg) : Option ((Int × Sg) ⊕ (Sg) ⊕ (Int × Int × Sg)) :=
  (gfI u 18 680 v10).bind fun x1 =>
  if (w32 x1) = 1 then
    kh v5 v7 (v9 + 1) u
  else
    if (w32 v11) = 1 then
      (gfI u 18 681 v10).bind fun x2 =>
      kh (v5 + ((w32 x2) * v7)) v7 (v9 + 1) u
    else
      kh v5 v7 (v9 + 1) u
noncomputable def f0_price_b84 (G : CG) (kh : Int → Int → Int → Sg → Option ((Int × Sg) ⊕ (Sg) ⊕ (Int × Int × Sg))) (v0 : Option Nat) (v4 : Option Nat) (v5 : Int) (v7 : Int) (v9 : Int) (v10 : Option Nat) (s0 : Int) (u : Sg) : Option ((Int × Sg) ⊕ (Sg) ⊕ (Int × Int × Sg)) :=
  if (w32 s0) = 2 then
    some (.inl (v9, u))
  else
    (gfI u 18 680 v10).bind fun x1 =>
    if (w32 x1) = 3 then
      (gfI u 18 681 v10).bind fun x9 =>
      (f0_rounded v5 ((w32 x9) * v7)).bind fun x10 =>
      (gfI u 18 681 v10).bind fun x11 =>
      if (w64 (x10 * (w32 x11))) ≤ 99999999 then
        kh (x10 * (w32 x11)) 1 (v9 + 1) u
      else
        some (.inr (.inl u))
    else
      (gfI u 18 680 v10).bind fun x2 =>
      if (w32 x2) = 4 then
        (gfI u 18 681 v10).bind fun x7 =>
        kh (mx64 v5 ((w32 x7) * v7)) v7 (v9 + 1) u
      else
        (gfI u 18 680 v10).bind fun x3 =>
        if (w32 x3) = 1 then
          if (w32 s0) = 1 then
            (gfI u 18 681 v10).bind fun x4 =>
            kh (v5 * (w32 x4)) (v7 * 1000) (v9 + 1) u
          else
            f0_price_b210 G (kh) v0 v4 v5 v7 v9 v10 s0 u
        else
          f0_price_b210 G (kh) v0 v4 v5 v7 v9 v10 s0 u
noncomputable def f0_price_l34 (G : CG) (v0 : Option Nat) (v4 : Option Nat) : Nat → Int → Int → Int → Sg → Option ((Int × Sg) ⊕ (Sg) ⊕ (Int × Int × Sg))
  | 0, _, _, _, _ => none
  | n + 1, v5, v7, v9, u =>
    (ztg u 6 v4).bind fun b1 =>
    (fJ2_size G (some b1) u).bind fun x2 =>
    if (w32 x2) ≤ (w32 v9) then
      some (.inr (.inr (v5, v7, u)))
    else
      (ztg u 6 v4).bind fun b3 =>
      (fJ2_get G (some b3) v9 u).bind fun x4 =>
      (zcast u [18] x4).bind fun y5 =>
      (gfR u 18 682 x4).bind fun x6 =>
      if x6 = none then
        f0_price_b84 G (f0_price_l34 G v0 v4 n) v0 v4 v5 v7 v9 x4 1 u
      else
        (gfR u 1 14 v0).bind fun x7 =>
        (gfR u 18 682 x4).bind fun x8 =>
        (ztg u 3 x7).bind fun b9 =>
        (f2_truth G (some b9) x8 u).bind fun q10 =>
        f0_price_b84 G (f0_price_l34 G v0 v4 n) v0 v4 v5 v7 v9 x4 q10.1 q10.2
noncomputable def f0_price (G : CG) (v0 : Option Nat) (v1 : Int) (v2 : Int) (u : Sg) : Option (Int × Sg) :=
  (ztg u 1 v0).bind fun b1 =>
  (f0_look G (some b1) v1 v2 u).bind fun q2 =>
  if 0 ≤ (w32 q2.1) then
    (gfR q2.2 1 14 v0).bind fun x3 =>
    (gfR q2.2 3 80 x3).bind fun x4 =>
    (gfR q2.2 7 244 x4).bind fun x5 =>
    (f0_price_l34 G v0 x5 NN 0 1 0 q2.2).bind
      (Sum.elim
        (fun q6 =>
          some (((-100) - q6.1), q6.2))
        (Sum.elim
          (fun q7 =>
            some ((-4), q7))
          (fun q8 =>
            (f0_rounded q8.1 q8.2.1).bind fun x9 =>
            if (w64 x9) ≤ 99999999 then
              some (x9, q8.2.2)
            else
              some ((-4), q8.2.2))))
  else
    some (q2.1, q2.2)
noncomputable def f20_init (G : CG) (v0 : Option Nat) (u : Sg) : Option ((Sg) × Nat × Nat) :=
  v0.bind fun b1 =>
  bdU (zNewA u 1 24) fun q2 =>
  (pfR G.2.2.2.1 q2.2 21 800 (some b1) (some q2.1)).bind fun u3 =>
  bdU (zNewA u3 1 24) fun q4 =>
  (pfR G.2.2.2.1 q4.2 21 801 (some b1) (some q4.1)).bind fun u5 =>
  bdU (zNewA u5 1 24) fun q6 =>
  (pfR G.2.2.2.1 q6.2 21 802 (some b1) (some q6.1)).bind fun u7 =>
  bdU (zNewA u7 1 24) fun q8 =>
  (pfR G.2.2.2.1 q8.2 21 803 (some b1) (some q8.1)).bind fun u9 =>
  some (u9, 0, 0)
noncomputable def f0_policy (G : CG) (v0 : Option Nat) (u : Sg) : Option ((Int × Sg) × Nat × Nat) :=
  (gfR u 1 7 v0).bind fun x1 =>
  (ztg u 6 x1).bind fun b2 =>
  (fJ2_size G (some b2) u).bind fun x3 =>
  if (w32 x3) = 12 then
    some (((-4), u), 0, 0)
  else
    (gfR u 1 7 v0).bind fun x4 =>
    bdU (zNew u 21 5) fun q5 =>
    bdU (f20_init G (some q5.1) q5.2) fun q6 =>
    (ztg q6 6 x4).bind fun b7 =>
    bdU (fJ2_add G (some b7) (some q5.1) q6) fun q8 =>
    (gfR q8.2 1 7 v0).bind fun x9 =>
    (ztg q8.2 6 x9).bind fun b10 =>
    (fJ2_size G (some b10) q8.2).bind fun x11 =>
    some ((x11, q8.2), 0, 0)
noncomputable def f0_isPolicy (G : CG) (v0 : Option Nat) (v1 : Int) (u : Sg) : Option (Int) :=
  if (w32 v1) ≤ 0 then
    some 0
  else
    (gfR u 1 7 v0).bind fun x1 =>
    (ztg u 6 x1).bind fun b2 =>
    (fJ2_size G (some b2) u).bind fun x3 =>
    if (w32 x3) < (w32 v1) then
      some 0
    else
      some 1
noncomputable def f0_change_b65 (G : CG) (v0 : Option Nat) (v1 : Int) (v2 : Int) (v3 : Int) (v4 : Int) (v5 : Int) (u : Sg) : Option (Int × Sg) :=
  (f0_isDay v4).bind fun x1 =>
  if (w32 x1) = 0 then
    some ((-2), u)
  else
    (f0_isDay v5).bind fun x2 =>
    if (w32 x2) = 0 then
      some ((-2), u)
    else
      (gfR u 1 7 v0).bind fun x3 =>
      (ztg u 6 x3).bind fun b4 =>
      (fJ2_get G (some b4) (v1 - 1) u).bind fun x5 =>
      (zcast u [21] x5).bind fun y6 =>
      (gfI u 21 804 x5).bind fun x7 =>
      if (w32 x7) = 24 then
        some ((-4), u)
      else
        (gfR u 21 800 x5).bind fun x8 =>
        (gfI u 21 804 x5).bind fun x9 =>
        (asI G.2.2.2.1 u 1 x8 x9 v2).bind fun u10 =>
        (gfR u10 21 801 x5).bind fun x11 =>
        (gfI u10 21 804 x5).bind fun x12 =>
        (asI G.2.2.2.1 u10 1 x11 x12 v3).bind fun u13 =>
        (gfR u13 21 802 x5).bind fun x14 =>
        (gfI u13 21 804 x5).bind fun x15 =>
        (asI G.2.2.2.1 u13 1 x14 x15 v4).bind fun u16 =>
        (gfR u16 21 803 x5).bind fun x17 =>
        (gfI u16 21 804 x5).bind fun x18 =>
        (pfI G.2.2.2.1 u16 21 804 x5 (x18 + 1)).bind fun u19 =>
        (asI G.2.2.2.1 u19 1 x17 x18 v5).bind fun u20 =>
        (gfI u20 21 804 x5).bind fun x21 =>
        some (x21, u20)
noncomputable def f0_change_b51 (G : CG) (v0 : Option Nat) (v1 : Int) (v2 : Int) (v3 : Int) (v4 : Int) (v5 : Int) (u : Sg) : Option (Int × Sg) :=
  if (w32 v2) = 2 then
    if (w32 v3) < 0 then
      some ((-2), u)
    else
      if 1 < (w32 v3) then
        some ((-2), u)
      else
        f0_change_b65 G v0 v1 v2 v3 v4 v5 u
  else
    f0_change_b65 G v0 v1 v2 v3 v4 v5 u
noncomputable def f0_change_b35 (G : CG) (v0 : Option Nat) (v1 : Int) (v2 : Int) (v3 : Int) (v4 : Int) (v5 : Int) (u : Sg) : Option (Int × Sg) :=
  if (w32 v2) = 1 then
    if (w32 v3) < 0 then
      some ((-2), u)
    else
      if 99999999 < (w32 v3) then
        some ((-2), u)
      else
        f0_change_b51 G v0 v1 v2 v3 v4 v5 u
  else
    f0_change_b51 G v0 v1 v2 v3 v4 v5 u
noncomputable def f0_change (G : CG) (v0 : Option Nat) (v1 : Int) (v2 : Int) (v3 : Int) (v4 : Int) (v5 : Int) (u : Sg) : Option (Int × Sg) :=
  (ztg u 1 v0).bind fun b1 =>
  (f0_isPolicy G (some b1) v1 u).bind fun x2 =>
  if (w32 x2) = 0 then
    some ((-1), u)
  else
    if (w32 v2) < 0 then
      some ((-1), u)
    else
      if 2 < (w32 v2) then
        some ((-1), u)
      else
        if (w32 v2) = 0 then
          if (w32 v3) = 0 then
            f0_change_b35 G v0 v1 v2 v3 v4 v5 u
          else
            (ztg u 1 v0).bind fun b3 =>
            (f0_isWording G (some b3) v3 u).bind fun x4 =>
            if (w32 x4) = 0 then
              some ((-1), u)
            else
              f0_change_b35 G v0 v1 v2 v3 v4 v5 u
        else
          f0_change_b35 G v0 v1 v2 v3 v4 v5 u
noncomputable def f20_on_b112 (G : CG) (kh : Int → Int → Option (Int)) (v0 : Option Nat) (v1 : Int) (v2 : Int) (v3 : Int) (v4 : Int) (v5 : Int) (s0 : Int) (u : Sg) : Option (Int) :=
  if (w32 s0) = 0 then
    kh v4 (v5 + 1)
  else
    kh v5 (v5 + 1)
noncomputable def f20_on_b107 (G : CG) (kh : Int → Int → Option (Int)) (v0 : Option Nat) (v1 : Int) (v2 : Int) (v3 : Int) (v4 : Int) (v5 : Int) (u : Sg) : Option (Int) :=
  f20_on_b112 G (kh) v0 v1 v2 v3 v4 v5 1 u
noncomputable def f20_on_b111 (G : CG) (kh : Int → Int → Option (Int)) (v0 : Option Nat) (v1 : Int) (v2 : Int) (v3 : Int) (v4 : Int) (v5 : Int) (u : Sg) : Option (Int) :=
  f20_on_b112 G (kh) v0 v1 v2 v3 v4 v5 0 u
noncomputable def f20_on_l6 (G : CG) (v0 : Option Nat) (v1 : Int) (v2 : Int) (v3 : Int) (u : Sg) : Nat → Int → Int → Option (Int)
  | 0, _, _ => none
  | n + 1, v4, v5 =>
    (gfI u 21 804 v0).bind fun x1 =>
    if (w32 x1) ≤ (w32 v5) then
      some v4
    else
      (gfR u 21 800 v0).bind fun x2 =>
      (alI u 1 x2 v5).bind fun x3 =>
      if (w32 x3) = (w32 v1) then
        (gfR u 21 802 v0).bind fun x4 =>
        (alI u 1 x4 v5).bind fun x5 =>
        if (w32 v2) < (w32 x5) then
          f20_on_l6 G v0 v1 v2 v3 u n v4 (v5 + 1)
        else
          (gfR u 21 803 v0).bind fun x6 =>
          (alI u 1 x6 v5).bind fun x7 =>
          if (w32 x7) ≤ (w32 v3) then
            if (w32 v4) < 0 then
              f20_on_b107 G (f20_on_l6 G v0 v1 v2 v3 u n) v0 v1 v2 v3 v4 v5 u
            else
              (gfR u 21 802 v0).bind fun x8 =>
              (alI u 1 x8 v5).bind fun x9 =>
              (gfR u 21 802 v0).bind fun x10 =>
              (alI u 1 x10 v4).bind fun x11 =>
              if (w32 x11) < (w32 x9) then
                f20_on_b107 G (f20_on_l6 G v0 v1 v2 v3 u n) v0 v1 v2 v3 v4 v5 u
              else
                (gfR u 21 802 v0).bind fun x12 =>
                (alI u 1 x12 v5).bind fun x13 =>
                (gfR u 21 802 v0).bind fun x14 =>
                (alI u 1 x14 v4).bind fun x15 =>
                if (w32 x13) = (w32 x15) then
                  (gfR u 21 803 v0).bind fun x16 =>
                  (alI u 1 x16 v5).bind fun x17 =>
                  (gfR u 21 803 v0).bind fun x18 =>
                  (alI u 1 x18 v4).bind fun x19 =>
                  if (w32 x17) < (w32 x19) then
                    f20_on_b111 G (f20_on_l6 G v0 v1 v2 v3 u n) v0 v1 v2 v3 v4 v5 u
                  else
                    f20_on_b107 G (f20_on_l6 G v0 v1 v2 v3 u n) v0 v1 v2 v3 v4 v5 u
                else
                  f20_on_b111 G (f20_on_l6 G v0 v1 v2 v3 u n) v0 v1 v2 v3 v4 v5 u
          else
            f20_on_l6 G v0 v1 v2 v3 u n v4 (v5 + 1)
      else
        f20_on_l6 G v0 v1 v2 v3 u n v4 (v5 + 1)
noncomputable def f20_on (G : CG) (v0 : Option Nat) (v1 : Int) (v2 : Int) (v3 : Int) (u : Sg) : Option (Int) :=
  (f20_on_l6 G v0 v1 v2 v3 u NN (-1) 0).bind fun q1 =>
  if 0 ≤ (w32 q1) then
    (gfR u 21 801 v0).bind fun x2 =>
    (alI u 1 x2 q1).bind fun x3 =>
    some x3
  else
    some 0
noncomputable def f0_holds (G : CG) (v0 : Option Nat) (v1 : Int) (v2 : Int) (v3 : Int) (v4 : Int) (u : Sg) : Option (Int) :=
  (ztg u 1 v0).bind fun b1 =>
  (f0_isPolicy G (some b1) v1 u).bind fun x2 =>
  if (w32 x2) = 0 then
    some (-1)
  else
    if (w32 v2) < 0 then
      some (-1)
    else
      if (w32 v2) ≤ 2 then
        (f0_isDay v3).bind fun x3 =>
        if (w32 x3) = 0 then
          some (-2)
        else
          (f0_isDay v4).bind fun x4 =>
          if (w32 x4) = 0 then
            some (-2)
          else
            (gfR u 1 7 v0).bind fun x5 =>
            (ztg u 6 x5).bind fun b6 =>
            (fJ2_get G (some b6) (v1 - 1) u).bind fun x7 =>
            (zcast u [21] x7).bind fun y8 =>
            (ztg u 21 x7).bind fun b9 =>
            (f20_on G (some b9) v2 v3 v4 u).bind fun x10 =>
            some x10
      else
        some (-1)
noncomputable def f21_init (G : CG) (v0 : Option Nat) (v1 : Int) (v2 : Option Nat) (v3 : Int) (v4 : Int) (u : Sg) : Option ((Sg) × Nat × Nat) :=
  v0.bind fun b1 =>
  bdU (zNew u 20 3) fun q2 =>
  bdU (f19_init G (some q2.1) 6 q2.2) fun q3 =>
  (pfR G.2.2.2.1 q3 22 844 (some b1) (some q2.1)).bind fun u4 =>
  (pfI G.2.2.2.1 u4 22 840 (some b1) v1).bind fun u5 =>
  (pfR G.2.2.2.1 u5 22 841 (some b1) v2).bind fun u6 =>
  (pfI G.2.2.2.1 u6 22 842 (some b1) v3).bind fun u7 =>
  (pfI G.2.2.2.1 u7 22 843 (some b1) v4).bind fun u8 =>
  some (u8, 0, 0)
noncomputable def f0_claim (G : CG) (v0 : Option Nat) (v1 : Int) (v2 : Int) (v3 : Int) (v4 : Int) (u : Sg) : Option ((Int × Sg) × Nat × Nat) :=
  (ztg u 1 v0).bind fun b1 =>
  (f0_isPolicy G (some b1) v1 u).bind fun x2 =>
  if (w32 x2) = 0 then
    some (((-1), u), 0, 0)
  else
    (ztg u 1 v0).bind fun b3 =>
    (f0_isEvent G (some b3) v2 u).bind fun x4 =>
    if (w32 x4) = 0 then
      some (((-1), u), 0, 0)
    else
      (f0_isDay v3).bind fun x5 =>
      if (w32 x5) = 0 then
        some (((-2), u), 0, 0)
      else
        (f0_isDay v4).bind fun x6 =>
        if (w32 x6) = 0 then
          some (((-2), u), 0, 0)
        else
          (gfR u 1 8 v0).bind fun x7 =>
          (ztg u 6 x7).bind fun b8 =>
          (fJ2_size G (some b8) u).bind fun x9 =>
          if (w32 x9) = 40 then
            some (((-4), u), 0, 0)
          else
            (gfR u 1 8 v0).bind fun x10 =>
            bdU (zNew u 22 7) fun q11 =>
            (gfR q11.2 1 6 v0).bind fun x12 =>
            (ztg q11.2 6 x12).bind fun b13 =>
            (fJ2_get G (some b13) (v2 - 1) q11.2).bind fun x14 =>
            (zcast q11.2 [19] x14).bind fun y15 =>
            bdU (f21_init G (some q11.1) v1 x14 v3 v4 q11.2) fun q16 =>
            (ztg q16 6 x10).bind fun b17 =>
            bdU (fJ2_add G (some b17) (some q11.1) q16) fun q18 =>
            (gfR q18.2 1 8 v0).bind fun x19 =>
            (ztg q18.2 6 x19).bind fun b20 =>
            (fJ2_size G (some b20) q18.2).bind fun x21 =>
            some ((x21, q18.2), 0, 0)
noncomputable def f0_isClaim (G : CG) (v0 : Option Nat) (v1 : Int) (u : Sg) : Option (Int) :=
  if (w32 v1) ≤ 0 then
    some 0
  else
    (gfR u 1 8 v0).bind fun x1 =>
    (ztg u 6 x1).bind fun b2 =>
    (fJ2_size G (some b2) u).bind fun x3 =>
    if (w32 x3) < (w32 v1) then
      some 0
    else
      some 1
noncomputable def f0_loss (G : CG) (v0 : Option Nat) (v1 : Int) (v2 : Int) (v3 : Int) (u : Sg) : Option (Int × Sg) :=
  (ztg u 1 v0).bind fun b1 =>
  (f0_isClaim G (some b1) v1 u).bind fun x2 =>
  if (w32 x2) = 0 then
    some ((-1), u)
  else
    if (w32 v2) < 0 then
      some ((-2), u)
    else
      if 99999999 < (w32 v2) then
        some ((-2), u)
      else
        (f0_isDay v3).bind fun x3 =>
        if (w32 x3) = 0 then
          some ((-2), u)
        else
          (gfR u 1 8 v0).bind fun x4 =>
          (ztg u 6 x4).bind fun b5 =>
          (fJ2_get G (some b5) (v1 - 1) u).bind fun x6 =>
          (zcast u [22] x6).bind fun y7 =>
          (gfR u 22 844 x6).bind fun x8 =>
          (gfI u 20 762 x8).bind fun x9 =>
          if (w32 x9) = 6 then
            some ((-4), u)
          else
            (ztg u 20 x8).bind fun b10 =>
            (f19_add G (some b10) v2 v3 u).bind fun u11 =>
            (gfI u11 20 762 x8).bind fun x12 =>
            some (x12, u11)
noncomputable def f0_walk_l62 (G : CG) (v0 : Option Nat) (v1 : Int) (v2 : Int) (v3 : Int) (v4 : Int) (v5 : Option Nat) : Nat → Int → Sg → Option (Int × Sg)
  | 0, _, _ => none
  | n + 1, v6, u =>
    if (w32 v6) ≤ 0 then
      some (v6, u)
    else
      (gfR u 1 8 v0).bind fun x1 =>
      (gfR u 1 17 v0).bind fun x2 =>
      (alI u 1 x2 (v6 - 1)).bind fun x3 =>
      (ztg u 6 x1).bind fun b4 =>
      (fJ2_get G (some b4) x3 u).bind fun x5 =>
      (zcast u [22] x5).bind fun y6 =>
      (gfI u 22 842 x5).bind fun x7 =>
      (gfI u 22 842 v5).bind fun x8 =>
      if (w32 x7) ≤ (w32 x8) then
        some (v6, u)
      else
        (gfR u 1 17 v0).bind fun x9 =>
        (gfR u 1 17 v0).bind fun x10 =>
        (alI u 1 x10 (v6 - 1)).bind fun x11 =>
        (asI G.2.2.2.1 u 1 x9 v6 x11).bind fun u12 =>
        f0_walk_l62 G v0 v1 v2 v3 v4 v5 n (v6 + (-1)) u12
noncomputable def f0_walk_b121 (G : CG) (kh : Int → Int → Sg → Option (Int × Sg)) (v0 : Option Nat) (v1 : Int) (v2 : Int) (v3 : Int) (v4 : Int) (v6 : Int) (u : Sg) : Option (Int × Sg) :=
  (gfR u 1 17 v0).bind fun x1 =>
  (asI G.2.2.2.1 u 1 x1 v6 v4).bind fun u2 =>
  kh v3 (v4 + 1) u2
noncomputable def f0_walk_l5 (G : CG) (v0 : Option Nat) (v1 : Int) (v2 : Int) : Nat → Int → Int → Sg → Option (Int × Sg)
  | 0, _, _, _ => none
  | n + 1, v3, v4, u =>
    (gfR u 1 8 v0).bind fun x1 =>
    (ztg u 6 x1).bind fun b2 =>
    (fJ2_size G (some b2) u).bind fun x3 =>
    if (w32 x3) ≤ (w32 v4) then
      some (v3, u)
    else
      (gfR u 1 8 v0).bind fun x4 =>
      (ztg u 6 x4).bind fun b5 =>
      (fJ2_get G (some b5) v4 u).bind fun x6 =>
      (zcast u [22] x6).bind fun y7 =>
      (gfI u 22 840 x6).bind fun x8 =>
      if (w32 x8) = (w32 v1) then
        (gfI u 22 843 x6).bind fun x9 =>
        if (w32 x9) ≤ (w32 v2) then
          (f0_walk_l62 G v0 v1 v2 (v3 + 1) v4 x6 NN v3 u).bind fun q10 =>
          f0_walk_b121 G (f0_walk_l5 G v0 v1 v2 n) v0 v1 v2 (v3 + 1) v4 q10.1 q10.2
        else
          f0_walk_l5 G v0 v1 v2 n v3 (v4 + 1) u
      else
        f0_walk_l5 G v0 v1 v2 n v3 (v4 + 1) u
noncomputable def f0_walk (G : CG) (v0 : Option Nat) (v1 : Int) (v2 : Int) (u : Sg) : Option (Int × Sg) :=
  (f0_walk_l5 G v0 v1 v2 NN 0 0 u).bind fun q1 =>
  some (q1.1, q1.2)
noncomputable def f0_bounded (v0 : Int) (v2 : Int) (v3 : Int) : Option (Int) :=
  if 0 ≤ (w32 v2) then
    some (mx64 0 (mn64 v0 ((w32 v2) - v3)))
  else
    some v0
noncomputable def f0_worth_b140 (G : CG) (v1 : Option Nat) (v2 : Option Nat) (v3 : Int) (v4 : Int) (v6 : Int) (v9 : Option Nat) (s0 : Int) (s1 : Int) (u : Sg) : Option (Int × Sg) :=
  (gfR u 7 247 v9).bind fun x1 =>
  (alI u 1 x1 0).bind fun x2 =>
  (f0_bounded (div64 (s0 * (w32 s1)) 1000) x2 0).bind fun x3 =>
  (gfR u 7 247 v9).bind fun x4 =>
  (alI u 1 x4 1).bind fun x5 =>
  (f0_bounded x3 x5 v6).bind fun x6 =>
  (gfR u 7 247 v9).bind fun x7 =>
  (alI u 1 x7 2).bind fun x8 =>
  (f0_bounded x6 x8 v4).bind fun x9 =>
  (gfI u 22 842 v1).bind fun x10 =>
  (ztg u 21 v2).bind fun b11 =>
  (f20_on G (some b11) 1 x10 v3 u).bind fun x12 =>
  (f0_bounded x9 x12 v4).bind fun x13 =>
  some (x13, u)
noncomputable def f0_worth (G : CG) (v0 : Option Nat) (v1 : Option Nat) (v2 : Option Nat) (v3 : Int) (v4 : Int) (v6 : Int) (u : Sg) : Option (Int × Sg) :=
  (gfI u 22 842 v1).bind fun x1 =>
  (ztg u 21 v2).bind fun b2 =>
  (f20_on G (some b2) 0 x1 v3 u).bind fun x3 =>
  (gfI u 22 842 v1).bind fun x4 =>
  (ztg u 21 v2).bind fun b5 =>
  (f20_on G (some b5) 2 x4 v3 u).bind fun x6 =>
  if (w32 x6) = 0 then
    some (0, u)
  else
    if (w32 x3) = 0 then
      some (0, u)
    else
      (ztg u 1 v0).bind fun b7 =>
      (f0_the G (some b7) x3 u).bind fun x8 =>
      (gfR u 22 841 v1).bind fun x9 =>
      (gfR u 19 720 x9).bind fun x10 =>
      (ztg u 7 x8).bind fun b11 =>
      (f6_isComparable G (some b11) x10 u).bind fun x12 =>
      if (w32 x12) = 0 then
        some (0, u)
      else
        (ztg u 1 v0).bind fun b13 =>
        (f0_the G (some b13) x3 u).bind fun x14 =>
        (gfR u 1 14 v0).bind fun x15 =>
        (gfR u 22 841 v1).bind fun x16 =>
        (ztg u 3 x15).bind fun b17 =>
        (f2_set G (some b17) x14 x16 v3 u).bind fun u18 =>
        (gfR u18 1 14 v0).bind fun x19 =>
        (gfR u18 1 14 v0).bind fun x20 =>
        (gfI u18 3 82 x20).bind fun x21 =>
        (ztg u18 3 x19).bind fun b22 =>
        (f2_answerBy G (some b22) x21 u18).bind fun q23 =>
        if (w32 q23.1) = 1 then
          (gfR q23.2 22 844 v1).bind fun x24 =>
          (ztg q23.2 20 x24).bind fun b25 =>
          (f19_on G (some b25) v3 0 q23.2).bind fun x26 =>
          (gfI q23.2 7 245 x14).bind fun x27 =>
          (gfI q23.2 7 246 x14).bind fun x28 =>
          if 0 ≤ (w32 x28) then
            (gfI q23.2 7 246 x14).bind fun x29 =>
            f0_worth_b140 G v1 v2 v3 v4 v6 x14 (mx64 0 (w32 (x26 - (mx32 0 x27)))) x29 q23.2
          else
            f0_worth_b140 G v1 v2 v3 v4 v6 x14 (mx64 0 (w32 (x26 - (mx32 0 x27)))) 1000 q23.2
        else
          some (0, q23.2)
noncomputable def f0_payAll_l2 (G : CG) (v0 : Option Nat) (v1 : Int) (v2 : Int) : Nat → Int → Sg → Option (Sg)
  | 0, _, _ => none
  | n + 1, v3, u =>
    (gfR u 1 8 v0).bind fun x1 =>
    (ztg u 6 x1).bind fun b2 =>
    (fJ2_size G (some b2) u).bind fun x3 =>
    if (w32 x3) ≤ (w32 v3) then
      some u
    else
      (gfR u 1 16 v0).bind fun x4 =>
      (gfR u 1 8 v0).bind fun x5 =>
      (ztg u 6 x5).bind fun b6 =>
      (fJ2_get G (some b6) v3 u).bind fun x7 =>
      (zcast u [22] x7).bind fun y8 =>
      (gfI u 22 840 x7).bind fun x9 =>
      if (w32 x9) = (w32 v1) then
        (asI G.2.2.2.1 u 1 x4 v3 0).bind fun u13 =>
        f0_payAll_l2 G v0 v1 v2 n (v3 + 1) u13
      else
        (gfR u 1 16 v0).bind fun x10 =>
        (alI u 1 x10 v3).bind fun x11 =>
        (asI G.2.2.2.1 u 1 x4 v3 x11).bind fun u12 =>
        f0_payAll_l2 G v0 v1 v2 n (v3 + 1) u12
noncomputable def f0_payAll_b167 (G : CG) (kh : Int → Int → Option (Int)) (v0 : Option Nat) (v1 : Int) (v2 : Int) (v3 : Int) (v4 : Int) (v6 : Int) (v7 : Option Nat) (v10 : Int) (s0 : Int) (s1 : Int) (u : Sg) : Option (Int) :=
  kh (s0 + s1) (v10 + 1)
noncomputable def f0_payAll_l103 (G : CG) (v0 : Option Nat) (v1 : Int) (v2 : Int) (v3 : Int) (v4 : Int) (v6 : Int) (v7 : Option Nat) (u : Sg) : Nat → Int → Int → Option (Int)
  | 0, _, _ => none
  | n + 1, v8, v10 =>
    if (w32 v6) ≤ (w32 v10) then
      some v8
    else
      (gfR u 1 8 v0).bind fun x1 =>
      (gfR u 1 17 v0).bind fun x2 =>
      (alI u 1 x2 v10).bind fun x3 =>
      (ztg u 6 x1).bind fun b4 =>
      (fJ2_get G (some b4) x3 u).bind fun x5 =>
      (zcast u [22] x5).bind fun y6 =>
      (gfI u 22 842 x5).bind fun x7 =>
      (gfI u 22 842 v7).bind fun x8 =>
      if (w32 (div32 x7 365)) = (w32 (div32 x8 365)) then
        (gfR u 1 16 v0).bind fun x9 =>
        (gfR u 1 17 v0).bind fun x10 =>
        (alI u 1 x10 v10).bind fun x11 =>
        (alI u 1 x9 x11).bind fun x12 =>
        f0_payAll_b167 G (f0_payAll_l103 G v0 v1 v2 v3 v4 v6 v7 u n) v0 v1 v2 v3 v4 v6 v7 v10 v8 (w32 x12) u
      else
        f0_payAll_b167 G (f0_payAll_l103 G v0 v1 v2 v3 v4 v6 v7 u n) v0 v1 v2 v3 v4 v6 v7 v10 v8 0 u
noncomputable def f0_payAll_l70 (G : CG) (v0 : Option Nat) (v1 : Int) (v2 : Int) (v3 : Int) : Nat → Int → Int → Sg → Option (Sg)
  | 0, _, _, _ => none
  | n + 1, v4, v6, u =>
    if (w32 v3) ≤ (w32 v6) then
      some u
    else
      (gfR u 1 8 v0).bind fun x1 =>
      (gfR u 1 17 v0).bind fun x2 =>
      (alI u 1 x2 v6).bind fun x3 =>
      (ztg u 6 x1).bind fun b4 =>
      (fJ2_get G (some b4) x3 u).bind fun x5 =>
      (zcast u [22] x5).bind fun y6 =>
      (f0_payAll_l103 G v0 v1 v2 v3 v4 v6 x5 u NN 0 0).bind fun q7 =>
      (gfR u 1 7 v0).bind fun x8 =>
      (ztg u 6 x8).bind fun b9 =>
      (fJ2_get G (some b9) (v1 - 1) u).bind fun x10 =>
      (zcast u [21] x10).bind fun y11 =>
      (ztg u 1 v0).bind fun b12 =>
      (f0_worth G (some b12) x5 x10 v2 v4 q7 u).bind fun q13 =>
      (gfR q13.2 1 16 v0).bind fun x14 =>
      (gfR q13.2 1 17 v0).bind fun x15 =>
      (alI q13.2 1 x15 v6).bind fun x16 =>
      (asI G.2.2.2.1 q13.2 1 x14 x16 q13.1).bind fun u17 =>
      f0_payAll_l70 G v0 v1 v2 v3 n (v4 + q13.1) (v6 + 1) u17
noncomputable def f0_payAll (G : CG) (v0 : Option Nat) (v1 : Int) (v2 : Int) (u : Sg) : Option (Sg) :=
  (f0_payAll_l2 G v0 v1 v2 NN 0 u).bind fun q1 =>
  (ztg q1 1 v0).bind fun b2 =>
  (f0_walk G (some b2) v1 v2 q1).bind fun q3 =>
  (f0_payAll_l70 G v0 v1 v2 q3.1 NN 0 0 q3.2).bind fun q4 =>
  some q4
noncomputable def f0_pay (G : CG) (v0 : Option Nat) (v1 : Int) (v2 : Int) (u : Sg) : Option (Int × Sg) :=
  (ztg u 1 v0).bind fun b1 =>
  (f0_isClaim G (some b1) v1 u).bind fun x2 =>
  if (w32 x2) = 0 then
    some ((-1), u)
  else
    (f0_isDay v2).bind fun x3 =>
    if (w32 x3) = 0 then
      some ((-2), u)
    else
      (gfR u 1 8 v0).bind fun x4 =>
      (ztg u 6 x4).bind fun b5 =>
      (fJ2_get G (some b5) (v1 - 1) u).bind fun x6 =>
      (zcast u [22] x6).bind fun y7 =>
      (gfI u 22 840 x6).bind fun x8 =>
      (ztg u 1 v0).bind fun b9 =>
      (f0_payAll G (some b9) x8 v2 u).bind fun u10 =>
      (gfR u10 1 16 v0).bind fun x11 =>
      (alI u10 1 x11 (v1 - 1)).bind fun x12 =>
      some (x12, u10)
noncomputable def f0_used_b102 (G : CG) (kh : Int → Int → Option (Int)) (v0 : Option Nat) (v1 : Int) (v2 : Int) (v4 : Int) (v6 : Int) (u : Sg) : Option (Int) :=
  (gfR u 1 16 v0).bind fun x1 =>
  (alI u 1 x1 v6).bind fun x2 =>
  kh (v4 + (w32 x2)) (v6 + 1)
noncomputable def f0_used_l46 (G : CG) (v0 : Option Nat) (v1 : Int) (v2 : Int) (u : Sg) : Nat → Int → Int → Option (Int)
  | 0, _, _ => none
  | n + 1, v4, v6 =>
    (gfR u 1 8 v0).bind fun x1 =>
    (ztg u 6 x1).bind fun b2 =>
    (fJ2_size G (some b2) u).bind fun x3 =>
    if (w32 x3) ≤ (w32 v6) then
      some v4
    else
      (gfR u 1 8 v0).bind fun x4 =>
      (ztg u 6 x4).bind fun b5 =>
      (fJ2_get G (some b5) v6 u).bind fun x6 =>
      (zcast u [22] x6).bind fun y7 =>
      (gfI u 22 840 x6).bind fun x8 =>
      if (w32 x8) = (w32 v1) then
        if (w32 v2) < 0 then
          f0_used_b102 G (f0_used_l46 G v0 v1 v2 u n) v0 v1 v2 v4 v6 u
        else
          (gfI u 22 842 x6).bind fun x9 =>
          if (w32 (div32 x9 365)) = (w32 v2) then
            f0_used_b102 G (f0_used_l46 G v0 v1 v2 u n) v0 v1 v2 v4 v6 u
          else
            f0_used_l46 G v0 v1 v2 u n v4 (v6 + 1)
      else
        f0_used_l46 G v0 v1 v2 u n v4 (v6 + 1)
noncomputable def f0_used (G : CG) (v0 : Option Nat) (v1 : Int) (v2 : Int) (v3 : Int) (u : Sg) : Option (Int × Sg) :=
  (ztg u 1 v0).bind fun b1 =>
  (f0_isPolicy G (some b1) v1 u).bind fun x2 =>
  if (w32 x2) = 0 then
    some ((-1), u)
  else
    if (w32 v2) < (-1) then
      some ((-2), u)
    else
      if 27 < (w32 v2) then
        some ((-2), u)
      else
        (f0_isDay v3).bind fun x3 =>
        if (w32 x3) = 0 then
          some ((-2), u)
        else
          (ztg u 1 v0).bind fun b4 =>
          (f0_payAll G (some b4) v1 v3 u).bind fun u5 =>
          (f0_used_l46 G v0 v1 v2 u5 NN 0 0).bind fun q6 =>
          some (q6, u5)
noncomputable def f0_treaty_b49 (G : CG) (v0 : Option Nat) (v1 : Int) (v2 : Int) (v3 : Int) (u : Sg) : Option (Int × Sg) :=
  (gfI u 1 12 v0).bind fun x1 =>
  if (w32 x1) = 6 then
    some ((-4), u)
  else
    (gfR u 1 9 v0).bind fun x2 =>
    (gfI u 1 12 v0).bind fun x3 =>
    (asI G.2.2.2.1 u 1 x2 x3 v1).bind fun u4 =>
    (gfR u4 1 10 v0).bind fun x5 =>
    (gfI u4 1 12 v0).bind fun x6 =>
    (asI G.2.2.2.1 u4 1 x5 x6 v2).bind fun u7 =>
    (gfR u7 1 11 v0).bind fun x8 =>
    (gfI u7 1 12 v0).bind fun x9 =>
    (asI G.2.2.2.1 u7 1 x8 x9 v3).bind fun u10 =>
    (gfI u10 1 12 v0).bind fun x11 =>
    (pfI G.2.2.2.1 u10 1 12 v0 (x11 + 1)).bind fun u12 =>
    some (x11, u12)
noncomputable def f0_treaty_b27 (G : CG) (v0 : Option Nat) (v1 : Int) (v2 : Int) (v3 : Int) (s0 : Int) (s1 : Int) (u : Sg) : Option (Int × Sg) :=
  if (w32 s1) < (w32 s0) then
    some ((-2), u)
  else
    if (w32 v1) = 1 then
      if (w32 v3) < 0 then
        some ((-2), u)
      else
        if (w32 v3) ≤ 99999999 then
          f0_treaty_b49 G v0 v1 v2 v3 u
        else
          some ((-2), u)
    else
      f0_treaty_b49 G v0 v1 v2 v3 u
noncomputable def f0_treaty (G : CG) (v0 : Option Nat) (v1 : Int) (v2 : Int) (v3 : Int) (u : Sg) : Option (Int × Sg) :=
  if (w32 v1) < 0 then
    some ((-2), u)
  else
    if 1 < (w32 v1) then
      some ((-2), u)
    else
      if (w32 v2) < 0 then
        some ((-2), u)
      else
        if (w32 v1) = 0 then
          f0_treaty_b27 G v0 v1 v2 v3 v2 1000 u
        else
          f0_treaty_b27 G v0 v1 v2 v3 v2 99999999 u
noncomputable def f0_taken_b66 (G : CG) (kh : Int → Int → Option ((Int) ⊕ (Int))) (v0 : Option Nat) (v2 : Int) (v3 : Int) (v4 : Int) (s0 : Int) (u : Sg) : Option ((Int) ⊕ (Int)) :=
  if (w32 v4) = (w32 v2) then
    some (.inl s0)
  else
    kh (v3 - s0) (v4 + 1)
noncomputable def f0_taken_l5 (G : CG) (v0 : Option Nat) (v2 : Int) (u : Sg) : Nat → Int → Int → Option ((Int) ⊕ (Int))
  | 0, _, _ => none
  | n + 1, v3, v4 =>
    (gfI u 1 12 v0).bind fun x1 =>
    if (w32 x1) ≤ (w32 v4) then
      some (.inr v3)
    else
      (gfR u 1 9 v0).bind fun x2 =>
      (alI u 1 x2 v4).bind fun x3 =>
      if (w32 x3) = 0 then
        (gfR u 1 10 v0).bind fun x8 =>
        (alI u 1 x8 v4).bind fun x9 =>
        f0_taken_b66 G (f0_taken_l5 G v0 v2 u n) v0 v2 v3 v4 (div64 ((w32 v3) * (w32 x9)) 1000) u
      else
        (gfR u 1 11 v0).bind fun x4 =>
        (alI u 1 x4 v4).bind fun x5 =>
        (gfR u 1 10 v0).bind fun x6 =>
        (alI u 1 x6 v4).bind fun x7 =>
        f0_taken_b66 G (f0_taken_l5 G v0 v2 u n) v0 v2 v3 v4 (w32 (mn32 x5 (mx32 0 (v3 - x7)))) u
noncomputable def f0_taken (G : CG) (v0 : Option Nat) (v1 : Int) (v2 : Int) (u : Sg) : Option (Int) :=
  (f0_taken_l5 G v0 v2 u NN v1 0).bind
    (Sum.elim
      (fun q1 =>
        some q1)
      (fun q2 =>
        some q2))
noncomputable def f0_ceded (G : CG) (v0 : Option Nat) (v1 : Int) (v2 : Int) (v3 : Int) (u : Sg) : Option (Int × Sg) :=
  (ztg u 1 v0).bind fun b1 =>
  (f0_isClaim G (some b1) v1 u).bind fun x2 =>
  if (w32 x2) = 0 then
    some ((-1), u)
  else
    if (w32 v2) < (-1) then
      some ((-1), u)
    else
      (gfI u 1 12 v0).bind fun x3 =>
      if (w32 v2) < (w32 x3) then
        (ztg u 1 v0).bind fun b4 =>
        (f0_pay G (some b4) v1 v3 u).bind fun q5 =>
        if 0 ≤ (w32 q5.1) then
          (ztg q5.2 1 v0).bind fun b6 =>
          (f0_taken G (some b6) q5.1 v2 q5.2).bind fun x7 =>
          some (x7, q5.2)
        else
          some (q5.1, q5.2)
      else
        some ((-1), u)
noncomputable def f0_book (G : CG) (v0 : Option Nat) (v1 : Int) (v2 : Int) (v3 : Int) (v4 : Int) (u : Sg) : Option (Sg) :=
  (gfR u 1 18 v0).bind fun x1 =>
  (gfI u 1 22 v0).bind fun x2 =>
  (asI G.2.2.2.1 u 1 x1 x2 v1).bind fun u3 =>
  (gfR u3 1 19 v0).bind fun x4 =>
  (gfI u3 1 22 v0).bind fun x5 =>
  (asI G.2.2.2.1 u3 1 x4 x5 v2).bind fun u6 =>
  (gfR u6 1 20 v0).bind fun x7 =>
  (gfI u6 1 22 v0).bind fun x8 =>
  (asI G.2.2.2.1 u6 1 x7 x8 v3).bind fun u9 =>
  (gfR u9 1 21 v0).bind fun x10 =>
  (gfI u9 1 22 v0).bind fun x11 =>
  (pfI G.2.2.2.1 u9 1 22 v0 (x11 + 1)).bind fun u12 =>
  (asI G.2.2.2.1 u12 1 x10 x11 v4).bind fun u13 =>
  some u13
noncomputable def f0_close_l20 (G : CG) (v0 : Option Nat) (v1 : Int) : Nat → Int → Sg → Option (Sg)
  | 0, _, _ => none
  | n + 1, v2, u =>
    (gfR u 1 7 v0).bind fun x1 =>
    (ztg u 6 x1).bind fun b2 =>
    (fJ2_size G (some b2) u).bind fun x3 =>
    if (w32 x3) < (w32 v2) then
      some u
    else
      (ztg u 1 v0).bind fun b4 =>
      (f0_payAll G (some b4) v2 v1 u).bind fun u5 =>
      f0_close_l20 G v0 v1 n (v2 + 1) u5
noncomputable def f0_close_b128 (G : CG) (kh : Int → Int → Option (Int)) (v0 : Option Nat) (v1 : Int) (v3 : Int) (s0 : Int) (s1 : Int) (s2 : Int) (u : Sg) : Option (Int) :=
  kh (s0 + (s1 + s2)) (v3 + 1)
noncomputable def f0_close_b97 (G : CG) (kh : Int → Int → Option (Int)) (v0 : Option Nat) (v1 : Int) (v3 : Int) (v4 : Option Nat) (s0 : Int) (s1 : Int) (u : Sg) : Option (Int) :=
  (gfR u 1 16 v0).bind fun x1 =>
  (alI u 1 x1 v3).bind fun x2 =>
  (gfR u 1 16 v0).bind fun x3 =>
  (alI u 1 x3 v3).bind fun x4 =>
  (ztg u 1 v0).bind fun b5 =>
  (f0_taken G (some b5) x4 (-1) u).bind fun x6 =>
  (gfI u 22 846 v4).bind fun x7 =>
  if (w32 (x2 - x6)) = (w32 x7) then
    f0_close_b128 G (kh) v0 v1 v3 s0 s1 0 u
  else
    f0_close_b128 G (kh) v0 v1 v3 s0 s1 2 u
noncomputable def f0_close_l49 (G : CG) (v0 : Option Nat) (v1 : Int) (u : Sg) : Nat → Int → Int → Option (Int)
  | 0, _, _ => none
  | n + 1, v2, v3 =>
    (gfR u 1 8 v0).bind fun x1 =>
    (ztg u 6 x1).bind fun b2 =>
    (fJ2_size G (some b2) u).bind fun x3 =>
    if (w32 x3) ≤ (w32 v3) then
      some v2
    else
      (gfR u 1 8 v0).bind fun x4 =>
      (ztg u 6 x4).bind fun b5 =>
      (fJ2_get G (some b5) v3 u).bind fun x6 =>
      (zcast u [22] x6).bind fun y7 =>
      (gfR u 1 16 v0).bind fun x8 =>
      (alI u 1 x8 v3).bind fun x9 =>
      (gfI u 22 845 x6).bind fun x10 =>
      if (w32 x9) = (w32 x10) then
        f0_close_b97 G (f0_close_l49 G v0 v1 u n) v0 v1 v3 x6 v2 0 u
      else
        f0_close_b97 G (f0_close_l49 G v0 v1 u n) v0 v1 v3 x6 v2 2 u
noncomputable def f0_close_b283 (G : CG) (kh : Int → Sg → Option (Sg)) (v0 : Option Nat) (v1 : Int) (v2 : Int) (v3 : Int) (v4 : Option Nat) (v5 : Int) (v6 : Int) (u : Sg) : Option (Sg) :=
  (gfI u 22 845 v4).bind fun x1 =>
  (pfI G.2.2.2.1 u 22 845 v4 (x1 + v5)).bind fun u2 =>
  (gfI u2 22 846 v4).bind fun x3 =>
  (pfI G.2.2.2.1 u2 22 846 v4 (x3 + v6)).bind fun u4 =>
  kh (v3 + 1) u4
noncomputable def f0_close_b255 (G : CG) (kh : Int → Sg → Option (Sg)) (v0 : Option Nat) (v1 : Int) (v2 : Int) (v3 : Int) (v4 : Option Nat) (v5 : Int) (v6 : Int) (u : Sg) : Option (Sg) :=
  if (w32 v6) = 0 then
    f0_close_b283 G (kh) v0 v1 v2 v3 v4 v5 v6 u
  else
    (ztg u 1 v0).bind fun b1 =>
    (f0_book G (some b1) (v3 + 1) 2 v6 v1 u).bind fun u2 =>
    (ztg u2 1 v0).bind fun b3 =>
    (f0_book G (some b3) (v3 + 1) 3 (-v6) v1 u2).bind fun u4 =>
    f0_close_b283 G (kh) v0 v1 v2 v3 v4 v5 v6 u4
noncomputable def f0_close_l159 (G : CG) (v0 : Option Nat) (v1 : Int) (v2 : Int) : Nat → Int → Sg → Option (Sg)
  | 0, _, _ => none
  | n + 1, v3, u =>
    (gfR u 1 8 v0).bind fun x1 =>
    (ztg u 6 x1).bind fun b2 =>
    (fJ2_size G (some b2) u).bind fun x3 =>
    if (w32 x3) ≤ (w32 v3) then
      some u
    else
      (gfR u 1 8 v0).bind fun x4 =>
      (ztg u 6 x4).bind fun b5 =>
      (fJ2_get G (some b5) v3 u).bind fun x6 =>
      (zcast u [22] x6).bind fun y7 =>
      (gfR u 1 16 v0).bind fun x8 =>
      (alI u 1 x8 v3).bind fun x9 =>
      (gfI u 22 845 x6).bind fun x10 =>
      (gfR u 1 16 v0).bind fun x11 =>
      (alI u 1 x11 v3).bind fun x12 =>
      (gfR u 1 16 v0).bind fun x13 =>
      (alI u 1 x13 v3).bind fun x14 =>
      (ztg u 1 v0).bind fun b15 =>
      (f0_taken G (some b15) x14 (-1) u).bind fun x16 =>
      (gfI u 22 846 x6).bind fun x17 =>
      if (w32 (x9 - x10)) = 0 then
        f0_close_b255 G (f0_close_l159 G v0 v1 v2 n) v0 v1 v2 v3 x6 (x9 - x10) ((x12 - x16) - x17) u
      else
        (ztg u 1 v0).bind fun b18 =>
        (f0_book G (some b18) (v3 + 1) 0 (-(x9 - x10)) v1 u).bind fun u19 =>
        (ztg u19 1 v0).bind fun b20 =>
        (f0_book G (some b20) (v3 + 1) 1 (x9 - x10) v1 u19).bind fun u21 =>
        f0_close_b255 G (f0_close_l159 G v0 v1 v2 n) v0 v1 v2 v3 x6 (x9 - x10) ((x12 - x16) - x17) u21
noncomputable def f0_close (G : CG) (v0 : Option Nat) (v1 : Int) (u : Sg) : Option (Int × Sg) :=
  (f0_isDay v1).bind fun x1 =>
  if (w32 x1) = 0 then
    some ((-2), u)
  else
    (gfI u 1 23 v0).bind fun x2 =>
    if (w32 x2) ≤ (w32 v1) then
      (f0_close_l20 G v0 v1 NN 1 u).bind fun q3 =>
      (f0_close_l49 G v0 v1 q3 NN 0 0).bind fun q4 =>
      (gfI q3 1 22 v0).bind fun x5 =>
      if (w32 (x5 + q4)) ≤ 400 then
        (pfI G.2.2.2.1 q3 1 23 v0 v1).bind fun u6 =>
        (f0_close_l159 G v0 v1 q4 NN 0 u6).bind fun q7 =>
        some (q4, q7)
      else
        some ((-4), q3)
    else
      some ((-2), u)
noncomputable def f0_row (G : CG) (v0 : Option Nat) (v1 : Int) (v2 : Int) (u : Sg) : Option (Int) :=
  if (w32 v1) < 0 then
    some (-1)
  else
    (gfI u 1 22 v0).bind fun x1 =>
    if (w32 v1) < (w32 x1) then
      if (w32 v2) = 0 then
        (gfR u 1 18 v0).bind fun x3 =>
        (alI u 1 x3 v1).bind fun x4 =>
        some x4
      else
      if (w32 v2) = 1 then
        (gfR u 1 19 v0).bind fun x6 =>
        (alI u 1 x6 v1).bind fun x7 =>
        some x7
      else
      if (w32 v2) = 2 then
        (gfR u 1 20 v0).bind fun x9 =>
        (alI u 1 x9 v1).bind fun x10 =>
        some x10
      else
      if (w32 v2) = 3 then
        (gfR u 1 21 v0).bind fun x12 =>
        (alI u 1 x12 v1).bind fun x13 =>
        some x13
      else
        some (-2)
    else
      some (-1)
noncomputable def f0_balance_b30 (G : CG) (kh : Int → Int → Option (Int)) (v0 : Option Nat) (v1 : Int) (v2 : Int) (v4 : Int) (u : Sg) : Option (Int) :=
  (gfR u 1 20 v0).bind fun x1 =>
  (alI u 1 x1 v4).bind fun x2 =>
  kh (v2 + (w32 x2)) (v4 + 1)
noncomputable def f0_balance_l5 (G : CG) (v0 : Option Nat) (v1 : Int) (u : Sg) : Nat → Int → Int → Option (Int)
  | 0, _, _ => none
  | n + 1, v2, v4 =>
    (gfI u 1 22 v0).bind fun x1 =>
    if (w32 x1) ≤ (w32 v4) then
      some v2
    else
      if (w32 v1) = (-1) then
        f0_balance_b30 G (f0_balance_l5 G v0 v1 u n) v0 v1 v2 v4 u
      else
        (gfR u 1 19 v0).bind fun x2 =>
        (alI u 1 x2 v4).bind fun x3 =>
        if (w32 x3) = (w32 v1) then
          f0_balance_b30 G (f0_balance_l5 G v0 v1 u n) v0 v1 v2 v4 u
        else
          f0_balance_l5 G v0 v1 u n v2 (v4 + 1)
noncomputable def f0_balance (G : CG) (v0 : Option Nat) (v1 : Int) (u : Sg) : Option (Int) :=
  (f0_balance_l5 G v0 v1 u NN 0 0).bind fun q1 =>
  some q1
noncomputable def f0_gridAt_l18 (G : CG) (v0 : Option Nat) (v1 : Int) (v3 : Int) (v4 : Int) : Nat → Int → Sg → Option (Sg)
  | 0, _, _ => none
  | n + 1, v6, u =>
    (gfR u 1 7 v0).bind fun x1 =>
    (ztg u 6 x1).bind fun b2 =>
    (fJ2_size G (some b2) u).bind fun x3 =>
    if (w32 x3) < (w32 v6) then
      some u
    else
      (ztg u 1 v0).bind fun b4 =>
      (f0_payAll G (some b4) v6 v3 u).bind fun u5 =>
      f0_gridAt_l18 G v0 v1 v3 v4 n (v6 + 1) u5
noncomputable def f0_gridAt_b101 (G : CG) (kh : Int → Int → Option (Int)) (v0 : Option Nat) (v1 : Int) (v6 : Int) (s0 : Int) (s1 : Int) (u : Sg) : Option (Int) :=
  kh (s0 + s1) (v6 + 1)
noncomputable def f0_gridAt_l48 (G : CG) (v0 : Option Nat) (v1 : Int) (u : Sg) : Nat → Int → Int → Option (Int)
  | 0, _, _ => none
  | n + 1, v4, v6 =>
    (gfR u 1 8 v0).bind fun x1 =>
    (ztg u 6 x1).bind fun b2 =>
    (fJ2_size G (some b2) u).bind fun x3 =>
    if (w32 x3) ≤ (w32 v6) then
      some v4
    else
      (gfR u 1 8 v0).bind fun x4 =>
      (ztg u 6 x4).bind fun b5 =>
      (fJ2_get G (some b5) v6 u).bind fun x6 =>
      (zcast u [22] x6).bind fun y7 =>
      (gfI u 22 842 x6).bind fun x8 =>
      if (w32 (div32 x8 365)) = (w32 v1) then
        (gfR u 1 16 v0).bind fun x9 =>
        (alI u 1 x9 v6).bind fun x10 =>
        f0_gridAt_b101 G (f0_gridAt_l48 G v0 v1 u n) v0 v1 v6 v4 (w32 x10) u
      else
        f0_gridAt_b101 G (f0_gridAt_l48 G v0 v1 u n) v0 v1 v6 v4 0 u
noncomputable def f0_gridAt (G : CG) (v0 : Option Nat) (v1 : Int) (v2 : Int) (u : Sg) : Option (Int × Sg) :=
  (f0_gridAt_l18 G v0 v1 ((((v1 + v2) + 1) * 365) - 1) 0 NN 1 u).bind fun q1 =>
  (f0_gridAt_l48 G v0 v1 q1 NN 0 0).bind fun q2 =>
  some (q2, q1)
noncomputable def f0_paid (G : CG) (v0 : Option Nat) (v1 : Int) (v2 : Int) (u : Sg) : Option (Int × Sg) :=
  if (w32 v1) < 0 then
    some ((-2), u)
  else
    if 9 < (w32 v1) then
      some ((-2), u)
    else
      if (w32 v2) < 0 then
        some ((-2), u)
      else
        if 9 < (w32 v2) then
          some ((-2), u)
        else
          if (w32 (v1 + v2)) ≤ 26 then
            (ztg u 1 v0).bind fun b1 =>
            (f0_gridAt G (some b1) v1 v2 u).bind fun q2 =>
            some (q2.1, q2.2)
          else
            some ((-2), u)
noncomputable def f0_end_l33 (G : CG) (v0 : Option Nat) (v1 : Int) (v2 : Int) (v3 : Int) : Nat → Int → Sg → Option (Sg)
  | 0, _, _ => none
  | n + 1, v4, u =>
    if (w32 v2) < (w32 (v3 + v4)) then
      some u
    else
      (gfR u 1 24 v0).bind fun x1 =>
      (ztg u 1 v0).bind fun b2 =>
      (f0_gridAt G (some b2) v3 v4 u).bind fun q3 =>
      (asI G.2.2.2.1 q3.2 4 x1 ((10 * v3) + v4) q3.1).bind fun u4 =>
      f0_end_l33 G v0 v1 v2 v3 n (v4 + 1) u4
noncomputable def f0_end_l25 (G : CG) (v0 : Option Nat) (v1 : Int) (v2 : Int) : Nat → Int → Sg → Option (Sg)
  | 0, _, _ => none
  | n + 1, v3, u =>
    if (w32 v2) < (w32 v3) then
      some u
    else
      (f0_end_l33 G v0 v1 v2 v3 NN 0 u).bind fun q1 =>
      f0_end_l25 G v0 v1 v2 n (v3 + 1) q1
noncomputable def f0_end_l106 (G : CG) (v0 : Option Nat) (v2 : Int) (v3 : Int) (v5 : Int) (u : Sg) : Nat → Int → Int → Int → Option (Int × Int)
  | 0, _, _, _ => none
  | n + 1, v6, v8, v10 =>
    if (w32 ((v2 - v5) - 1)) < (w32 v10) then
      some (v6, v8)
    else
      (gfR u 1 24 v0).bind fun x1 =>
      (alI u 4 x1 (((10 * v10) + v5) + 1)).bind fun x2 =>
      (gfR u 1 24 v0).bind fun x3 =>
      (alI u 4 x3 ((10 * v10) + v5)).bind fun x4 =>
      f0_end_l106 G v0 v2 v3 v5 u n (v6 + x2) (v8 + x4) (v10 + 1)
noncomputable def f0_end_l91 (G : CG) (v0 : Option Nat) (v2 : Int) (u : Sg) : Nat → Int → Int → Option (Int)
  | 0, _, _ => none
  | n + 1, v3, v5 =>
    if (w32 v2) ≤ (w32 v5) then
      some v3
    else
      (f0_end_l106 G v0 v2 v3 v5 u NN 0 0 0).bind fun q1 =>
      if (w64 q1.2) = 0 then
        f0_end_l91 G v0 v2 u n v3 (v5 + 1)
      else
        if w64 q1.2 = 0 then none else
        f0_end_l91 G v0 v2 u n (mn64 (div64 (v3 * q1.1) q1.2) 2000000000) (v5 + 1)
noncomputable def f0_end (G : CG) (v0 : Option Nat) (v1 : Int) (v2 : Int) (u : Sg) : Option (Int × Sg) :=
  if (w32 v2) < 0 then
    some ((-2), u)
  else
    if 9 < (w32 v2) then
      some ((-2), u)
    else
      if (w32 v1) < 0 then
        some ((-2), u)
      else
        if (w32 v1) ≤ (w32 v2) then
          (f0_end_l25 G v0 v1 v2 NN 0 u).bind fun q1 =>
          (gfR q1 1 24 v0).bind fun x2 =>
          (alI q1 4 x2 (((10 * v1) + v2) - v1)).bind fun x3 =>
          (f0_end_l91 G v0 v2 q1 NN x3 (v2 - v1)).bind fun q4 =>
          some (q4, q1)
        else
          some ((-2), u)
noncomputable def f0_size (G : CG) (v0 : Option Nat) (v1 : Int) (v2 : Int) (u : Sg) : Option (Int × Sg) :=
  if (w32 v1) < 0 then
    some ((-2), u)
  else
    if 400 < (w32 v1) then
      some ((-2), u)
    else
      if (w32 v2) < 0 then
        some ((-2), u)
      else
        if (w32 v2) ≤ 100 then
          (gfR u 1 25 v0).bind fun x1 =>
          (alI u 1 x1 v1).bind fun x2 =>
          (gfI u 1 26 v0).bind fun x3 =>
          if (w32 ((x3 - x2) + v2)) ≤ 200 then
            (gfR u 1 25 v0).bind fun x4 =>
            (asI G.2.2.2.1 u 1 x4 v1 v2).bind fun u5 =>
            (gfI u5 1 26 v0).bind fun x6 =>
            (pfI G.2.2.2.1 u5 1 26 v0 (x6 + (v2 - x2))).bind fun u7 =>
            (pfI G.2.2.2.1 u7 1 31 v0 0).bind fun u8 =>
            some (x2, u8)
          else
            some ((-4), u)
        else
          some ((-2), u)
noncomputable def f0_count (G : CG) (v0 : Option Nat) (v1 : Int) (v2 : Int) (u : Sg) : Option (Int × Sg) :=
  if (w32 v1) < 0 then
    some ((-2), u)
  else
    if 4 < (w32 v1) then
      some ((-2), u)
    else
      if (w32 v2) < 0 then
        some ((-2), u)
      else
        if (w32 v2) ≤ 200 then
          (gfR u 1 27 v0).bind fun x1 =>
          (alI u 1 x1 v1).bind fun x2 =>
          (gfR u 1 27 v0).bind fun x3 =>
          (asI G.2.2.2.1 u 1 x3 v1 v2).bind fun u4 =>
          (pfI G.2.2.2.1 u4 1 31 v0 0).bind fun u5 =>
          some (x2, u5)
        else
          some ((-2), u)
noncomputable def f0_fold_l2 (G : CG) (v0 : Option Nat) : Nat → Int → Sg → Option (Sg)
  | 0, _, _ => none
  | n + 1, v1, u =>
    if 1600 < (w32 v1) then
      some u
    else
      (gfR u 1 30 v0).bind fun x1 =>
      (asI G.2.2.2.1 u 4 x1 v1 0).bind fun u2 =>
      f0_fold_l2 G v0 n (v1 + 1) u2
noncomputable def f0_fold_l47 (G : CG) (v0 : Option Nat) (v1 : Int) : Nat → Int → Sg → Option (Sg)
  | 0, _, _ => none
  | n + 1, v2, u =>
    if 400 < (w32 v2) then
      some u
    else
      (gfR u 1 30 v0).bind fun x1 =>
      (alI u 4 x1 (v1 + v2)).bind fun x2 =>
      (gfR u 1 29 v0).bind fun x3 =>
      (alI u 4 x3 v1).bind fun x4 =>
      (gfR u 1 25 v0).bind fun x5 =>
      (alI u 1 x5 v2).bind fun x6 =>
      (asI G.2.2.2.1 u 4 x1 (v1 + v2) (x2 + (x4 * (w32 x6)))).bind fun u7 =>
      f0_fold_l47 G v0 v1 n (v2 + 1) u7
noncomputable def f0_fold_l24 (G : CG) (v0 : Option Nat) : Nat → Int → Sg → Option (Sg)
  | 0, _, _ => none
  | n + 1, v1, u =>
    if 1200 < (w32 v1) then
      some u
    else
      (gfR u 1 29 v0).bind fun x1 =>
      (alI u 4 x1 v1).bind fun x2 =>
      if (w64 x2) = 0 then
        f0_fold_l24 G v0 n (v1 + 1) u
      else
        (f0_fold_l47 G v0 v1 NN 0 u).bind fun q3 =>
        f0_fold_l24 G v0 n (v1 + 1) q3
noncomputable def f0_fold_l93 (G : CG) (v0 : Option Nat) : Nat → Int → Sg → Option (Sg)
  | 0, _, _ => none
  | n + 1, v1, u =>
    if 1600 < (w32 v1) then
      some u
    else
      (gfR u 1 29 v0).bind fun x1 =>
      (gfR u 1 30 v0).bind fun x2 =>
      (alI u 4 x2 v1).bind fun x3 =>
      (asI G.2.2.2.1 u 4 x1 v1 x3).bind fun u4 =>
      f0_fold_l93 G v0 n (v1 + 1) u4
noncomputable def f0_fold (G : CG) (v0 : Option Nat) (u : Sg) : Option (Sg) :=
  (f0_fold_l2 G v0 NN 0 u).bind fun q1 =>
  (f0_fold_l24 G v0 NN 0 q1).bind fun q2 =>
  (f0_fold_l93 G v0 NN 0 q2).bind fun q3 =>
  some q3
noncomputable def f0_findMasses_l17 (G : CG) (v0 : Option Nat) (u : Sg) : Nat → Int → Int → Option (Int)
  | 0, _, _ => none
  | n + 1, v1, v3 =>
    if 4 ≤ (w32 v3) then
      some v1
    else
      (gfI u 1 26 v0).bind fun x1 =>
      f0_findMasses_l17 G v0 u n (v1 * (w32 x1)) (v3 + 1)
noncomputable def f0_findMasses_l38 (G : CG) (v0 : Option Nat) (v1 : Int) : Nat → Int → Sg → Option (Sg)
  | 0, _, _ => none
  | n + 1, v3, u =>
    if 1600 < (w32 v3) then
      some u
    else
      (gfR u 1 28 v0).bind fun x1 =>
      (asI G.2.2.2.1 u 4 x1 v3 0).bind fun u2 =>
      (gfR u2 1 29 v0).bind fun x3 =>
      if (w32 v3) = 0 then
        (asI G.2.2.2.1 u2 4 x3 v3 1).bind fun u5 =>
        f0_findMasses_l38 G v0 v1 n (v3 + 1) u5
      else
        (asI G.2.2.2.1 u2 4 x3 v3 0).bind fun u4 =>
        f0_findMasses_l38 G v0 v1 n (v3 + 1) u4
noncomputable def f0_findMasses_l91 (G : CG) (v0 : Option Nat) (v1 : Int) (v3 : Int) : Nat → Int → Sg → Option (Sg)
  | 0, _, _ => none
  | n + 1, v4, u =>
    if 1600 < (w32 v4) then
      some u
    else
      (gfR u 1 28 v0).bind fun x1 =>
      (alI u 4 x1 v4).bind fun x2 =>
      (gfR u 1 27 v0).bind fun x3 =>
      (alI u 1 x3 v3).bind fun x4 =>
      (gfR u 1 29 v0).bind fun x5 =>
      (alI u 4 x5 v4).bind fun x6 =>
      (asI G.2.2.2.1 u 4 x1 v4 (x2 + (((w32 x4) * v1) * x6))).bind fun u7 =>
      f0_findMasses_l91 G v0 v1 v3 n (v4 + 1) u7
noncomputable def f0_findMasses_b88 (G : CG) (kh : Int → Int → Sg → Option (Sg)) (v0 : Option Nat) (v1 : Int) (v3 : Int) (u : Sg) : Option (Sg) :=
  (f0_findMasses_l91 G v0 v1 v3 NN 0 u).bind fun q1 =>
  if (w32 v3) = 3 then
    kh 1 (v3 + 1) q1
  else
    (gfI q1 1 26 v0).bind fun x2 =>
    if (w32 x2) = 0 then
      kh 0 (v3 + 1) q1
    else
      (gfI q1 1 26 v0).bind fun x3 =>
      if w64 (w32 x3) = 0 then none else
      kh (div64 v1 (w32 x3)) (v3 + 1) q1
noncomputable def f0_findMasses_l75 (G : CG) (v0 : Option Nat) : Nat → Int → Int → Sg → Option (Sg)
  | 0, _, _, _ => none
  | n + 1, v1, v3, u =>
    if 4 < (w32 v3) then
      some u
    else
      if (w32 v3) ≤ 0 then
        f0_findMasses_b88 G (f0_findMasses_l75 G v0 n) v0 v1 v3 u
      else
        (ztg u 1 v0).bind fun b1 =>
        (f0_fold G (some b1) u).bind fun u2 =>
        f0_findMasses_b88 G (f0_findMasses_l75 G v0 n) v0 v1 v3 u2
noncomputable def f0_findMasses (G : CG) (v0 : Option Nat) (u : Sg) : Option (Sg) :=
  (gfI u 1 31 v0).bind fun x1 =>
  if (w32 x1) = 0 then
    (pfI G.2.2.2.1 u 1 31 v0 1).bind fun u2 =>
    (f0_findMasses_l17 G v0 u2 NN 1 0).bind fun q3 =>
    (f0_findMasses_l38 G v0 q3 NN 0 u2).bind fun q4 =>
    (f0_findMasses_l75 G v0 NN q3 0 q4).bind fun q5 =>
    some q5
  else
    some u
noncomputable def f0_mass_l27 (G : CG) (v0 : Option Nat) (v1 : Int) (u : Sg) : Nat → Int → Int → Option (Int)
  | 0, _, _ => none
  | n + 1, v2, v4 =>
    if 1600 < (w32 v4) then
      some v2
    else
      if (w32 v1) = (-1) then
        (gfR u 1 28 v0).bind fun x1 =>
        (alI u 4 x1 v4).bind fun x2 =>
        f0_mass_l27 G v0 v1 u n (v2 + x2) (v4 + 1)
      else
        some v2
noncomputable def f0_mass_b22 (G : CG) (v0 : Option Nat) (v1 : Int) (u : Sg) : Option (Int × Sg) :=
  (f0_mass_l27 G v0 v1 u NN 0 0).bind fun q1 =>
  some (q1, u)
noncomputable def f0_mass (G : CG) (v0 : Option Nat) (v1 : Int) (u : Sg) : Option (Int × Sg) :=
  (ztg u 1 v0).bind fun b1 =>
  (f0_findMasses G (some b1) u).bind fun u2 =>
  if (w32 v1) < 0 then
    f0_mass_b22 G v0 v1 u2
  else
    if 1600 < (w32 v1) then
      f0_mass_b22 G v0 v1 u2
    else
      (gfR u2 1 28 v0).bind fun x3 =>
      (alI u2 4 x3 v1).bind fun x4 =>
      some (x4, u2)
noncomputable def f0_quantile_l50 (G : CG) (v0 : Option Nat) (v1 : Int) (v2 : Int) (v3 : Int) (u : Sg) : Nat → Int → Int → Option (Int)
  | 0, _, _ => none
  | n + 1, v5, v7 =>
    if (w64 ((w32 v1) * v3)) ≤ (w64 ((w32 v2) * v5)) then
      some v7
    else
      (gfR u 1 28 v0).bind fun x1 =>
      (alI u 4 x1 (v7 + 1)).bind fun x2 =>
      f0_quantile_l50 G v0 v1 v2 v3 u n (v5 + x2) (v7 + 1)
noncomputable def f0_quantile (G : CG) (v0 : Option Nat) (v1 : Int) (v2 : Int) (u : Sg) : Option (Int × Sg) :=
  if (w32 v2) < 1 then
    some ((-2), u)
  else
    if 1000 < (w32 v2) then
      some ((-2), u)
    else
      if (w32 v1) < 0 then
        some ((-2), u)
      else
        if (w32 v1) ≤ (w32 v2) then
          (ztg u 1 v0).bind fun b1 =>
          (f0_mass G (some b1) (-1) u).bind fun q2 =>
          if (w64 q2.1) = 0 then
            some ((-3), q2.2)
          else
            (gfR q2.2 1 28 v0).bind fun x3 =>
            (alI q2.2 4 x3 0).bind fun x4 =>
            (f0_quantile_l50 G v0 v1 v2 q2.1 q2.2 NN x4 0).bind fun q5 =>
            some (q5, q2.2)
        else
          some ((-2), u)
noncomputable def f0_beyond_l26 (G : CG) (v0 : Option Nat) (v1 : Int) (u : Sg) : Nat → Int → Int → Option (Int)
  | 0, _, _ => none
  | n + 1, v2, v4 =>
    if 1600 < (w32 v4) then
      some v2
    else
      (gfR u 1 28 v0).bind fun x1 =>
      (alI u 4 x1 v4).bind fun x2 =>
      f0_beyond_l26 G v0 v1 u n (v2 + ((w32 (v4 - v1)) * x2)) (v4 + 1)
noncomputable def f0_beyond (G : CG) (v0 : Option Nat) (v1 : Int) (u : Sg) : Option (Int × Sg) :=
  if (w32 v1) < 0 then
    some ((-2), u)
  else
    if (w32 v1) ≤ 1600 then
      (ztg u 1 v0).bind fun b1 =>
      (f0_findMasses G (some b1) u).bind fun u2 =>
      (f0_beyond_l26 G v0 v1 u2 NN 0 (v1 + 1)).bind fun q3 =>
      some (q3, u2)
    else
      some ((-2), u)
noncomputable def f0_told (G : CG) (v0 : Option Nat) (v1 : Int) (u : Sg) : Option (Int) :=
  if (w32 v1) = 0 then
    (gfR u 1 5 v0).bind fun x2 =>
    (ztg u 6 x2).bind fun b3 =>
    (fJ2_size G (some b3) u).bind fun x4 =>
    some x4
  else
  if (w32 v1) = 1 then
    (gfR u 1 6 v0).bind fun x6 =>
    (ztg u 6 x6).bind fun b7 =>
    (fJ2_size G (some b7) u).bind fun x8 =>
    some x8
  else
  if (w32 v1) = 2 then
    (gfR u 1 7 v0).bind fun x10 =>
    (ztg u 6 x10).bind fun b11 =>
    (fJ2_size G (some b11) u).bind fun x12 =>
    some x12
  else
  if (w32 v1) = 3 then
    (gfR u 1 8 v0).bind fun x14 =>
    (ztg u 6 x14).bind fun b15 =>
    (fJ2_size G (some b15) u).bind fun x16 =>
    some x16
  else
  if (w32 v1) = 4 then
    (gfI u 1 12 v0).bind fun x18 =>
    some x18
  else
  if (w32 v1) = 5 then
    (gfI u 1 22 v0).bind fun x20 =>
    some x20
  else
  if (w32 v1) = 6 then
    (gfI u 1 26 v0).bind fun x22 =>
    some x22
  else
  if (w32 v1) = 7 then
    (gfI u 1 2 v0).bind fun x24 =>
    some x24
  else
    some (-2)

theorem t2_count_l16 {G : CG} {A : Nat → Prop} {l : Launch} {a : List PV} {r : Sg} {Kf : Sg → Option (Sg)} (v0 : Option Nat) (v1 : Int) (hK0 : ∀ q : Sg, Kf q = some r → JW kC (bC G A) A l D2_count a (jQ (bC G A) A a none r 0 0) 0 0 q 0 0 60 [] []) : ∀ (n : Nat) (v2 : Int) (u : Sg), ((f2_count_l16 G v0 v1 n v2 u).bind Kf = some r) → JW kC (bC G A) A l D2_count a (jQ (bC G A) A a none r 0 0) 0 0 u 0 0 16 [(0, pR v0), (1, pI v1), (2, pI v2)] [] := by
  intro n
  induction n with
  | zero => intro v2 u hf; exact onb hf
  | succ n ih =>
    intro v2 u hf
    unfold f2_count_l16 at hf
    refine j_iload_n dX2_count_16 2 rfl ?_
    refine j_aload_n dX2_count_17 0 rfl ?_
    obtain ⟨x1, hx1, hf⟩ := obb hf
    refine c_geta (ci := 2) (k := 0) hx1 zcl_2 (Nat.le_of_ble_eq_true rfl) zf_X2_29 fk_80 dX2_count_18 ?_
    obtain ⟨x2, hx2, hf⟩ := obb hf
    refine c_getiN (ci := 6) (k := 11) hx2 zcl_6 (Nat.le_of_ble_eq_true rfl) zf_X2_73 fk_251 dX2_count_21 ?_
    refine j_icmp_ge (w32 v2) (w32 x2) rfl rfl 60 dX2_count_24 (by decide) (fun h12 => ?_) (fun h12 => ?_)
    · replace hf := itb h12 hf
      exact j_sub [] _ rfl (hK0 u hf)
    · replace hf := ieb h12 hf
      refine j_aload_n dX2_count_27 0 rfl ?_
      refine j_iload_n dX2_count_28 2 rfl ?_
      refine j_iload_n dX2_count_29 1 rfl ?_
      obtain ⟨b3, hb3, hf⟩ := obb hf
      obtain ⟨eb3, tb3⟩ := ztg_s hb3
      obtain ⟨x4, hx4, hf⟩ := obb hf
      refine a_Vr [pI v2, pI v1] [] (t2_isOne (some b3) v2 v1 u hx4) ⟨q1522, q1524, qs42, q133, q1525⟩ dv2_isOne rfl ⟨(Nat.le_of_ble_eq_true rfl), (Nat.le_of_ble_eq_true rfl)⟩ (c_recv zcl_2 tb3) (by rw [← eb3]; rfl) (Nat.le_of_ble_eq_true rfl) dX2_count_30 ⟨Nat.le_refl 0, Nat.le_refl 0⟩ ?_
      refine j_if_eq (w32 x4) rfl 54 dX2_count_33 (by decide) (fun h11 => ?_) (fun h11 => ?_)
      · replace hf := itb h11 hf
        refine j_iinc dX2_count_54 2 rfl [(2, pI (v2 + 1)), (0, pR v0), (1, pI v1)] (Nat.le_of_ble_eq_true rfl) rfl ?_
        refine j_goto 16 dX2_count_57 (by decide) ?_
        exact j_sub [1, 2, 0] _ rfl (ih (v2 + 1) u hf)
      · replace hf := ieb h11 hf
        refine j_aload_n dX2_count_36 0 rfl ?_
        obtain ⟨x5, hx5, hf⟩ := obb hf
        refine c_geta (ci := 2) (k := 4) hx5 zcl_2 (Nat.le_of_ble_eq_true rfl) zf_X2_22 fk_84 dX2_count_37 ?_
        refine j_aload_n dX2_count_40 0 rfl ?_
        obtain ⟨x6, hx6, hf⟩ := obb hf
        refine c_geta (ci := 2) (k := 0) hx6 zcl_2 (Nat.le_of_ble_eq_true rfl) zf_X2_29 fk_80 dX2_count_41 ?_
        obtain ⟨x7, hx7, hf⟩ := obb hf
        refine c_getaN (ci := 6) (k := 12) hx7 zcl_6 (Nat.le_of_ble_eq_true rfl) zf_X2_79 fk_252 dX2_count_44 ?_
        refine j_iload_n dX2_count_47 2 rfl ?_
        obtain ⟨x8, hx8, hf⟩ := obb hf
        refine c_bald hx8 dX2_count_48 ?_
        refine j_dup2_11 dX2_count_49 rfl rfl ?_
        obtain ⟨x9, hx9, hf⟩ := obb hf
        refine c_iald hx9 dX2_count_50 ?_
        refine j_iconst dX2_count_51 ?_
        refine j_iadd dX2_count_52 ?_
        obtain ⟨u10, hu10, hf⟩ := obb hf
        refine c_iast hu10 dX2_count_53 ?_
        refine j_iinc dX2_count_54 2 rfl [(2, pI (v2 + 1)), (0, pR v0), (1, pI v1)] (Nat.le_of_ble_eq_true rfl) rfl ?_
        refine j_goto 16 dX2_count_57 (by decide) ?_
        exact j_sub [1, 2, 0] _ rfl (ih (v2 + 1) u10 hf)
theorem t2_count {G : CG} {A : Nat → Prop} {l : Launch} {r : Sg} (v0 : Option Nat) (v1 : Int) (u : Sg) (hf : f2_count G v0 v1 u = some r) : JM kC (bC G A) A l yX2_count D2_count [pR v0, pI v1] u none r 0 0 := by
  refine j_met (lv0 := [(0, pR v0), (1, pI v1)]) ⟨pl_X2, rfl, rfl, (Nat.le_of_ble_eq_true rfl), rfl⟩ ?_
  unfold f2_count at hf
  refine j_aload_n dX2_count_0 0 rfl ?_
  obtain ⟨x1, hx1, hf⟩ := ob hf
  refine c_geta (ci := 2) (k := 4) hx1 zcl_2 (Nat.le_of_ble_eq_true rfl) zf_X2_22 fk_84 dX2_count_1 ?_
  refine j_iconst dX2_count_4 ?_
  refine j_iconst dX2_count_5 ?_
  obtain ⟨u2, hu2, hf⟩ := ob hf
  refine c_iast hu2 dX2_count_6 ?_
  refine j_aload_n dX2_count_7 0 rfl ?_
  obtain ⟨x3, hx3, hf⟩ := ob hf
  refine c_geta (ci := 2) (k := 4) hx3 zcl_2 (Nat.le_of_ble_eq_true rfl) zf_X2_22 fk_84 dX2_count_8 ?_
  refine j_iconst dX2_count_11 ?_
  refine j_iconst dX2_count_12 ?_
  obtain ⟨u4, hu4, hf⟩ := ob hf
  refine c_iast hu4 dX2_count_13 ?_
  refine j_iconst dX2_count_14 ?_
  refine j_istore_n dX2_count_15 [(2, pI 0), (0, pR v0), (1, pI v1)] (Nat.le_of_ble_eq_true rfl) rfl ?_
  refine j_sub [1, 2, 0] _ rfl (t2_count_l16 v0 v1 ?_ NN 0 u4 hf)
  · intro q5 hf
    replace hf := Option.some.inj hf
    subst hf
    exact j_return (bC_mv G A) ⟨Nat.le_refl 0, Nat.le_refl 0⟩ rfl dX2_count_60
theorem t2_answerBy {G : CG} {A : Nat → Prop} {l : Launch} {r : Int × Sg} (v0 : Option Nat) (v1 : Int) (u : Sg) (hf : f2_answerBy G v0 v1 u = some r) : JM kC (bC G A) A l yX2_answerBy D2_answerBy [pR v0, pI v1] u (some (pI r.1)) r.2 0 0 := by
  refine j_met (lv0 := [(0, pR v0), (1, pI v1)]) ⟨pl_X2, rfl, rfl, (Nat.le_of_ble_eq_true rfl), rfl⟩ ?_
  unfold f2_answerBy at hf
  refine j_aload_n dX2_answerBy_0 0 rfl ?_
  refine j_iload_n dX2_answerBy_1 1 rfl ?_
  obtain ⟨b1, hb1, hf⟩ := ob hf
  obtain ⟨eb1, tb1⟩ := ztg_s hb1
  obtain ⟨u2, hu2, hf⟩ := ob hf
  refine a_Vv [pI v1] [] (t2_count (some b1) v1 u hu2) ⟨q1518, q1519, q1520, q133, q1521⟩ dv2_count rfl ⟨(Nat.le_of_ble_eq_true rfl), (Nat.le_of_ble_eq_true rfl)⟩ (c_recv zcl_2 tb1) (by rw [← eb1]; rfl) (Nat.le_of_ble_eq_true rfl) dX2_answerBy_2 ⟨Nat.le_refl 0, Nat.le_refl 0⟩ ?_
  refine j_aload_n dX2_answerBy_5 0 rfl ?_
  obtain ⟨b3, hb3, hf⟩ := ob hf
  obtain ⟨eb3, tb3⟩ := ztg_s hb3
  obtain ⟨x4, hx4, hf⟩ := ob hf
  refine a_Vr [] [] (t2_answer (some b3) u2 hx4) ⟨q1526, q1527, q1528, q133, q1529⟩ dv2_answer rfl ⟨(Nat.le_of_ble_eq_true rfl), (Nat.le_of_ble_eq_true rfl)⟩ (c_recv zcl_2 tb3) (by rw [← eb3]; rfl) (Nat.le_of_ble_eq_true rfl) dX2_answerBy_6 ⟨Nat.le_refl 0, Nat.le_refl 0⟩ ?_
  replace hf := Option.some.inj hf
  subst hf
  exact j_ireturn (bC_mv G A) ⟨Nat.le_refl 0, Nat.le_refl 0⟩ rfl dX2_answerBy_9
theorem t0_covers {G : CG} {A : Nat → Prop} {l : Launch} {r : Int × Sg} (v0 : Option Nat) (v1 : Int) (v2 : Int) (u : Sg) (hf : f0_covers G v0 v1 v2 u = some r) : JM kC (bC G A) A l yX0_covers D0_covers [pR v0, pI v1, pI v2] u (some (pI r.1)) r.2 0 0 := by
  refine j_met (lv0 := [(0, pR v0), (1, pI v1), (2, pI v2)]) ⟨pl_X0, rfl, rfl, (Nat.le_of_ble_eq_true rfl), rfl⟩ ?_
  unfold f0_covers at hf
  refine j_aload_n dX0_covers_0 0 rfl ?_
  refine j_iload_n dX0_covers_1 1 rfl ?_
  refine j_iload_n dX0_covers_2 2 rfl ?_
  obtain ⟨b1, hb1, hf⟩ := ob hf
  obtain ⟨eb1, tb1⟩ := ztg_s hb1
  obtain ⟨q2, hq2, hf⟩ := ob hf
  refine a_Vr [pI v1, pI v2] [] (t0_look (some b1) v1 v2 u hq2) ⟨q1498, q1500, qs41, q128, q1501⟩ dv0_look rfl ⟨(Nat.le_of_ble_eq_true rfl), (Nat.le_of_ble_eq_true rfl)⟩ (c_recv zcl_0 tb1) (by rw [← eb1]; rfl) (Nat.le_of_ble_eq_true rfl) dX0_covers_3 ⟨Nat.le_refl 0, Nat.le_refl 0⟩ ?_
  refine j_istore_n dX0_covers_6 [(3, pI q2.1), (0, pR v0), (1, pI v1), (2, pI v2)] (Nat.le_of_ble_eq_true rfl) rfl ?_
  refine j_iload_n dX0_covers_7 0 rfl ?_
  refine j_if_ge (w32 q2.1) rfl 15 dX0_covers_8 (by decide) (fun h8 => ?_) (fun h8 => ?_)
  · replace hf := it h8 hf
    refine j_aload_n dX0_covers_15 1 rfl ?_
    obtain ⟨x3, hx3, hf⟩ := ob hf
    refine c_geta (ci := 0) (k := 14) hx3 zcl_0 (Nat.le_of_ble_eq_true rfl) zf_X0_117 fk_14 dX0_covers_16 ?_
    refine j_aload_n dX0_covers_19 1 rfl ?_
    obtain ⟨x4, hx4, hf⟩ := ob hf
    refine c_geta (ci := 0) (k := 14) hx4 zcl_0 (Nat.le_of_ble_eq_true rfl) zf_X0_117 fk_14 dX0_covers_20 ?_
    obtain ⟨x5, hx5, hf⟩ := ob hf
    refine c_getiN (ci := 2) (k := 2) hx5 zcl_2 (Nat.le_of_ble_eq_true rfl) zf_X0_362 fk_82 dX0_covers_23 ?_
    obtain ⟨b6, hb6, hf⟩ := ob hf
    obtain ⟨eb6, tb6⟩ := ztg_s hb6
    obtain ⟨q7, hq7, hf⟩ := ob hf
    refine a_Vr [pI x5] [] (t2_answerBy (some b6) x5 q2.2 hq7) ⟨q1514, q1515, q1516, q133, q1517⟩ dv2_answerBy rfl ⟨(Nat.le_of_ble_eq_true rfl), (Nat.le_of_ble_eq_true rfl)⟩ (c_recv zcl_2 tb6) (by rw [← eb6]; rfl) (Nat.le_of_ble_eq_true rfl) dX0_covers_26 ⟨Nat.le_refl 0, Nat.le_refl 0⟩ ?_
    replace hf := Option.some.inj hf
    subst hf
    exact j_ireturn (bC_mv G A) ⟨Nat.le_refl 0, Nat.le_refl 0⟩ rfl dX0_covers_29
  · replace hf := ie h8 hf
    refine j_iload_n dX0_covers_11 0 rfl ?_
    refine j_goto 29 dX0_covers_12 (by decide) ?_
    replace hf := Option.some.inj hf
    subst hf
    exact j_ireturn (bC_mv G A) ⟨Nat.le_refl 0, Nat.le_refl 0⟩ rfl dX0_covers_29
theorem t2_isBefore {G : CG} {A : Nat → Prop} {l : Launch} {r : Int} (v0 : Option Nat) (v1 : Int) (v2 : Int) (u : Sg) (hf : f2_isBefore G v0 v1 v2 u = some r) : JM kC (bC G A) A l yX2_isBefore D2_isBefore [pR v0, pI v1, pI v2] u (some (pI r)) u 0 0 := by
  refine j_met (lv0 := [(0, pR v0), (1, pI v1), (2, pI v2)]) ⟨pl_X2, rfl, rfl, (Nat.le_of_ble_eq_true rfl), rfl⟩ ?_
  unfold f2_isBefore at hf
  refine j_iload_n dX2_isBefore_0 2 rfl ?_
  refine j_if_ge (w32 v2) rfl 6 dX2_isBefore_1 (by decide) (fun h7 => ?_) (fun h7 => ?_)
  · replace hf := it h7 hf
    refine j_iload_n dX2_isBefore_6 1 rfl ?_
    obtain ⟨x1, hx1, hf⟩ := ob hf
    refine a_Sr [pI v1] [] (tJ16_bitCount v1 u hx1) ⟨q1542, q1543, q168, q1544⟩ dvJ16_bitCount rfl ⟨(Nat.le_of_ble_eq_true rfl), (Nat.le_of_ble_eq_true rfl)⟩ rfl (Nat.le_of_ble_eq_true rfl) dX2_isBefore_7 ⟨Nat.le_refl 0, Nat.le_refl 0⟩ ?_
    refine j_iload_n dX2_isBefore_10 2 rfl ?_
    obtain ⟨x2, hx2, hf⟩ := ob hf
    refine a_Sr [pI v2] [pI x1] (tJ16_bitCount v2 u hx2) ⟨q1542, q1543, q168, q1544⟩ dvJ16_bitCount rfl ⟨(Nat.le_of_ble_eq_true rfl), (Nat.le_of_ble_eq_true rfl)⟩ rfl (Nat.le_of_ble_eq_true rfl) dX2_isBefore_11 ⟨Nat.le_refl 0, Nat.le_refl 0⟩ ?_
    refine j_isub dX2_isBefore_14 ?_
    refine j_istore_n dX2_isBefore_15 [(3, pI (x1 - x2)), (0, pR v0), (1, pI v1), (2, pI v2)] (Nat.le_of_ble_eq_true rfl) rfl ?_
    refine j_iload_n dX2_isBefore_16 0 rfl ?_
    refine j_if_lt (w32 (x1 - x2)) rfl 35 dX2_isBefore_17 (by decide) (fun h6 => ?_) (fun h6 => ?_)
    · replace hf := it h6 hf
      refine j_iconst dX2_isBefore_35 ?_
      refine j_goto 40 dX2_isBefore_36 (by decide) ?_
      replace hf := Option.some.inj hf
      subst hf
      exact j_zreturn (x := 1) (bC_mv G A) ⟨Nat.le_refl 0, Nat.le_refl 0⟩ (ty := .boolean) rfl (nar_z (Or.inr rfl)) dX2_isBefore_40
    · replace hf := ie h6 hf
      refine j_iload_n dX2_isBefore_20 0 rfl ?_
      refine j_if_ne (w32 (x1 - x2)) rfl 39 dX2_isBefore_21 (by decide) (fun h5 => ?_) (fun h5 => ?_)
      · replace hf := ie h5 hf
        refine j_iconst dX2_isBefore_39 ?_
        replace hf := Option.some.inj hf
        subst hf
        exact j_zreturn (x := 0) (bC_mv G A) ⟨Nat.le_refl 0, Nat.le_refl 0⟩ (ty := .boolean) rfl (nar_z (Or.inl rfl)) dX2_isBefore_40
      · replace hf := it h5 hf
        refine j_iload_n dX2_isBefore_24 2 rfl ?_
        refine j_iload_n dX2_isBefore_25 2 rfl ?_
        refine j_iload_n dX2_isBefore_26 3 rfl ?_
        refine j_ixor dX2_isBefore_27 ?_
        obtain ⟨x3, hx3, hf⟩ := ob hf
        refine a_Sr [pI (xor32 v1 v2)] [pI v1] (tJ16_lowestOneBit (xor32 v1 v2) u hx3) ⟨q1548, q1549, q168, q1550⟩ dvJ16_lowestOneBit rfl ⟨(Nat.le_of_ble_eq_true rfl), (Nat.le_of_ble_eq_true rfl)⟩ rfl (Nat.le_of_ble_eq_true rfl) dX2_isBefore_28 ⟨Nat.le_refl 0, Nat.le_refl 0⟩ ?_
        refine j_iand dX2_isBefore_31 ?_
        refine j_if_eq (w32 (and32 v1 x3)) rfl 39 dX2_isBefore_32 (by decide) (fun h4 => ?_) (fun h4 => ?_)
        · replace hf := it h4 hf
          refine j_iconst dX2_isBefore_39 ?_
          replace hf := Option.some.inj hf
          subst hf
          exact j_zreturn (x := 0) (bC_mv G A) ⟨Nat.le_refl 0, Nat.le_refl 0⟩ (ty := .boolean) rfl (nar_z (Or.inl rfl)) dX2_isBefore_40
        · replace hf := ie h4 hf
          refine j_iconst dX2_isBefore_35 ?_
          refine j_goto 40 dX2_isBefore_36 (by decide) ?_
          replace hf := Option.some.inj hf
          subst hf
          exact j_zreturn (x := 1) (bC_mv G A) ⟨Nat.le_refl 0, Nat.le_refl 0⟩ (ty := .boolean) rfl (nar_z (Or.inr rfl)) dX2_isBefore_40
  · replace hf := ie h7 hf
    refine j_iconst dX2_isBefore_4 ?_
    replace hf := Option.some.inj hf
    subst hf
    exact j_zreturn (x := 1) (bC_mv G A) ⟨Nat.le_refl 0, Nat.le_refl 0⟩ (ty := .boolean) rfl (nar_z (Or.inr rfl)) dX2_isBefore_5
theorem t2_settles_l2 {G : CG} {A : Nat → Prop} {l : Launch} {a : List PV} {r : Int × Sg} {Kf : Sg → Option (Int × Sg)} (v0 : Option Nat) (v1 : Int) (hK0 : ∀ q : Sg, Kf q = some r → JW kC (bC G A) A l D2_settles a (jQ (bC G A) A a (some (pI r.1)) r.2 0 0) 0 0 q 0 0 26 [(0, pR v0), (1, pI v1)] []) : ∀ (n : Nat) (v2 : Int) (u : Sg), ((f2_settles_l2 G v0 v1 n v2 u).bind Kf = some r) → JW kC (bC G A) A l D2_settles a (jQ (bC G A) A a (some (pI r.1)) r.2 0 0) 0 0 u 0 0 2 [(0, pR v0), (1, pI v1), (2, pI v2)] [] := by
  intro n
  induction n with
  | zero => intro v2 u hf; exact onb hf
  | succ n ih =>
    intro v2 u hf
    unfold f2_settles_l2 at hf
    refine j_iload_n dX2_settles_2 2 rfl ?_
    refine j_aload_n dX2_settles_3 0 rfl ?_
    obtain ⟨x1, hx1, hf⟩ := obb hf
    refine c_geta (ci := 2) (k := 0) hx1 zcl_2 (Nat.le_of_ble_eq_true rfl) zf_X2_29 fk_80 dX2_settles_4 ?_
    obtain ⟨x2, hx2, hf⟩ := obb hf
    refine c_getiN (ci := 6) (k := 11) hx2 zcl_6 (Nat.le_of_ble_eq_true rfl) zf_X2_73 fk_251 dX2_settles_7 ?_
    refine j_icmp_ge (w32 v2) (w32 x2) rfl rfl 26 dX2_settles_10 (by decide) (fun h5 => ?_) (fun h5 => ?_)
    · replace hf := itb h5 hf
      exact j_sub [0, 1] _ rfl (hK0 u hf)
    · replace hf := ieb h5 hf
      refine j_aload_n dX2_settles_13 0 rfl ?_
      obtain ⟨x3, hx3, hf⟩ := obb hf
      refine c_geta (ci := 2) (k := 5) hx3 zcl_2 (Nat.le_of_ble_eq_true rfl) zf_X2_25 fk_85 dX2_settles_14 ?_
      refine j_iload_n dX2_settles_17 2 rfl ?_
      refine j_iconst dX2_settles_18 ?_
      obtain ⟨u4, hu4, hf⟩ := obb hf
      refine c_bast hu4 dX2_settles_19 ?_
      refine j_iinc dX2_settles_20 2 rfl [(2, pI (v2 + 1)), (0, pR v0), (1, pI v1)] (Nat.le_of_ble_eq_true rfl) rfl ?_
      refine j_goto 2 dX2_settles_23 (by decide) ?_
      exact j_sub [1, 2, 0] _ rfl (ih (v2 + 1) u4 hf)
theorem t2_settles_l59 {G : CG} {A : Nat → Prop} {l : Launch} {a : List PV} {r : Int × Sg} {Kf : Int → Option (Int × Sg)} (v0 : Option Nat) (v1 : Int) (v2 : Int) (u : Sg) (hK0 : ∀ q : Int, Kf q = some r → JW kC (bC G A) A l D2_settles a (jQ (bC G A) A a (some (pI r.1)) r.2 0 0) 0 0 u 0 0 133 [(0, pR v0), (1, pI v1), (2, pI v2), (3, pI q)] []) : ∀ (n : Nat) (v3 : Int) (v4 : Int), ((f2_settles_l59 G v0 v1 v2 u n v3 v4).bind Kf = some r) → JW kC (bC G A) A l D2_settles a (jQ (bC G A) A a (some (pI r.1)) r.2 0 0) 0 0 u 0 0 59 [(0, pR v0), (1, pI v1), (2, pI v2), (3, pI v3), (4, pI v4)] [] := by
  intro n
  induction n with
  | zero => intro v3 v4 hf; exact onb hf
  | succ n ih =>
    intro v3 v4 hf
    unfold f2_settles_l59 at hf
    refine j_iload dX2_settles_59 4 rfl ?_
    refine j_aload_n dX2_settles_61 0 rfl ?_
    obtain ⟨x1, hx1, hf⟩ := obb hf
    refine c_geta (ci := 2) (k := 0) hx1 zcl_2 (Nat.le_of_ble_eq_true rfl) zf_X2_29 fk_80 dX2_settles_62 ?_
    obtain ⟨x2, hx2, hf⟩ := obb hf
    refine c_getaN (ci := 6) (k := 0) hx2 zcl_6 (Nat.le_of_ble_eq_true rfl) zf_X2_37 fk_240 dX2_settles_65 ?_
    obtain ⟨b3, hb3, hf⟩ := obb hf
    obtain ⟨eb3, tb3⟩ := ztg_s hb3
    obtain ⟨x4, hx4, hf⟩ := obb hf
    refine a_Fr (x := ix_0) [] [pI v4] (tJ2_size (some b3) u hx4) ⟨q1507, q559, q561, q131, q563⟩ iF_0 df_0 rfl ⟨(Nat.le_of_ble_eq_true rfl), (Nat.le_of_ble_eq_true rfl)⟩ zcl_5 rfl tb3 (by rw [← eb3]; rfl) (Nat.le_of_ble_eq_true rfl) dX2_settles_68 ⟨Nat.le_refl 0, Nat.le_refl 0⟩ ?_
    refine j_icmp_ge (w32 v4) (w32 x4) rfl rfl 133 dX2_settles_73 (by decide) (fun h18 => ?_) (fun h18 => ?_)
    · replace hf := itb h18 hf
      exact j_sub [0, 1, 2, 3] _ rfl (hK0 v3 hf)
    · replace hf := ieb h18 hf
      refine j_iload_n dX2_settles_76 1 rfl ?_
      refine j_iload dX2_settles_77 4 rfl ?_
      refine j_ishr dX2_settles_79 ?_
      refine j_iconst dX2_settles_80 ?_
      refine j_iand dX2_settles_81 ?_
      refine j_iconst dX2_settles_82 ?_
      refine j_icmp_ne (w32 (and32 (shr32 v1 v4) 1)) 1 rfl rfl 127 dX2_settles_83 (by decide) (fun h17 => ?_) (fun h17 => ?_)
      · replace hf := ieb h17 hf
        refine j_iinc dX2_settles_127 4 rfl [(4, pI (v4 + 1)), (0, pR v0), (1, pI v1), (2, pI v2), (3, pI v3)] (Nat.le_of_ble_eq_true rfl) rfl ?_
        refine j_goto 59 dX2_settles_130 (by decide) ?_
        exact j_sub [1, 2, 3, 4, 0] _ rfl (ih v3 (v4 + 1) hf)
      · replace hf := itb h17 hf
        refine j_iload_n dX2_settles_86 3 rfl ?_
        refine j_iload_n dX2_settles_87 2 rfl ?_
        refine j_aload_n dX2_settles_88 0 rfl ?_
        obtain ⟨x5, hx5, hf⟩ := obb hf
        refine c_geta (ci := 2) (k := 3) hx5 zcl_2 (Nat.le_of_ble_eq_true rfl) zf_X2_19 fk_83 dX2_settles_89 ?_
        refine j_iload dX2_settles_92 4 rfl ?_
        obtain ⟨x6, hx6, hf⟩ := obb hf
        refine c_iald hx6 dX2_settles_94 ?_
        rcases Decidable.em (w32 x6 = 0) with h7 | h7
        · exact onb (itb h7 hf)
        · replace hf := ieb h7 hf
          refine j_idiv dX2_settles_95 h7 ?_
          refine j_aload_n dX2_settles_96 0 rfl ?_
          obtain ⟨x8, hx8, hf⟩ := obb hf
          refine c_geta (ci := 2) (k := 0) hx8 zcl_2 (Nat.le_of_ble_eq_true rfl) zf_X2_29 fk_80 dX2_settles_97 ?_
          obtain ⟨x9, hx9, hf⟩ := obb hf
          refine c_getaN (ci := 6) (k := 10) hx9 zcl_6 (Nat.le_of_ble_eq_true rfl) zf_X2_62 fk_250 dX2_settles_100 ?_
          refine j_iload dX2_settles_103 4 rfl ?_
          obtain ⟨b10, hb10, hf⟩ := obb hf
          obtain ⟨eb10, tb10⟩ := ztg_s hb10
          obtain ⟨x11, hx11, hf⟩ := obb hf
          refine a_Fr (x := ix_1) [pI v4] [pI (div32 v2 x6), pI v3] (tJ2_get (some b10) v4 u hx11) ⟨q1509, q813, q815, q131, q817⟩ iF_1 df_1 rfl ⟨(Nat.le_of_ble_eq_true rfl), (Nat.le_of_ble_eq_true rfl)⟩ zcl_5 rfl tb10 (by rw [← eb10]; rfl) (Nat.le_of_ble_eq_true rfl) dX2_settles_105 ⟨Nat.le_refl 0, Nat.le_refl 0⟩ ?_
          obtain ⟨y12, hy12, hf⟩ := obb hf
          refine c_cast hy12 zok_Starts q1512 dX2_settles_110 ?_
          obtain ⟨x13, hx13, hf⟩ := obb hf
          refine c_getiN (ci := 4) (k := 1) hx13 zcl_4 (Nat.le_of_ble_eq_true rfl) zf_X2_71 fk_161 dX2_settles_113 ?_
          rcases Decidable.em (w32 x13 = 0) with h14 | h14
          · exact onb (itb h14 hf)
          · replace hf := ieb h14 hf
            refine j_irem dX2_settles_116 h14 ?_
            refine j_aload_n dX2_settles_117 0 rfl ?_
            obtain ⟨x15, hx15, hf⟩ := obb hf
            refine c_geta (ci := 2) (k := 3) hx15 zcl_2 (Nat.le_of_ble_eq_true rfl) zf_X2_19 fk_83 dX2_settles_118 ?_
            refine j_iload dX2_settles_121 4 rfl ?_
            obtain ⟨x16, hx16, hf⟩ := obb hf
            refine c_iald hx16 dX2_settles_123 ?_
            refine j_imul dX2_settles_124 ?_
            refine j_iadd dX2_settles_125 ?_
            refine j_istore_n dX2_settles_126 [(3, pI (v3 + ((rem32 (div32 v2 x6) x13) * x16))), (0, pR v0), (1, pI v1), (2, pI v2), (4, pI v4)] (Nat.le_of_ble_eq_true rfl) rfl ?_
            refine j_iinc dX2_settles_127 4 rfl [(4, pI (v4 + 1)), (3, pI (v3 + ((rem32 (div32 v2 x6) x13) * x16))), (0, pR v0), (1, pI v1), (2, pI v2)] (Nat.le_of_ble_eq_true rfl) rfl ?_
            refine j_goto 59 dX2_settles_130 (by decide) ?_
            exact j_sub [2, 3, 4, 1, 0] _ rfl (ih (v3 + ((rem32 (div32 v2 x6) x13) * x16)) (v4 + 1) hf)
theorem t2_settles_b162 {G : CG} {A : Nat → Prop} {l : Launch} {a : List PV} {r : Int × Sg} {Kf : (Sg) ⊕ (Sg) → Option (Int × Sg)} {v0 : Option Nat} {v1 : Int} (kh : Int → Sg → Option ((Sg) ⊕ (Sg))) (hkh : ∀ (z2 : Int) (zu : Sg), ((kh z2 zu).bind Kf = some r) → JW kC (bC G A) A l D2_settles a (jQ (bC G A) A a (some (pI r.1)) r.2 0 0) 0 0 zu 0 0 28 [(0, pR v0), (1, pI v1), (2, pI z2)] []) (hK0 : ∀ q : Sg, Kf (.inl q) = some r → JW kC (bC G A) A l D2_settles a (jQ (bC G A) A a (some (pI r.1)) r.2 0 0) 0 0 q 0 0 160 [] []) (hK1 : ∀ q : Sg, Kf (.inr q) = some r → JW kC (bC G A) A l D2_settles a (jQ (bC G A) A a (some (pI r.1)) r.2 0 0) 0 0 q 0 0 183 [] []) (v2 : Int) (v3 : Int) (u : Sg) (hf : (f2_settles_b162 G kh v0 v1 v2 v3 u).bind Kf = some r) : JW kC (bC G A) A l D2_settles a (jQ (bC G A) A a (some (pI r.1)) r.2 0 0) 0 0 u 0 0 162 [(0, pR v0), (1, pI v1), (2, pI v2), (3, pI v3)] [] := by
  unfold f2_settles_b162 at hf
  refine j_aload_n dX2_settles_162 0 rfl ?_
  obtain ⟨x1, hx1, hf⟩ := obb hf
  refine c_geta (ci := 2) (k := 5) hx1 zcl_2 (Nat.le_of_ble_eq_true rfl) zf_X2_25 fk_85 dX2_settles_163 ?_
  refine j_iload_n dX2_settles_166 3 rfl ?_
  refine j_aload_n dX2_settles_167 0 rfl ?_
  obtain ⟨x2, hx2, hf⟩ := obb hf
  refine c_geta (ci := 2) (k := 0) hx2 zcl_2 (Nat.le_of_ble_eq_true rfl) zf_X2_29 fk_80 dX2_settles_168 ?_
  obtain ⟨x3, hx3, hf⟩ := obb hf
  refine c_getaN (ci := 6) (k := 12) hx3 zcl_6 (Nat.le_of_ble_eq_true rfl) zf_X2_79 fk_252 dX2_settles_171 ?_
  refine j_iload_n dX2_settles_174 2 rfl ?_
  obtain ⟨x4, hx4, hf⟩ := obb hf
  refine c_bald hx4 dX2_settles_175 ?_
  obtain ⟨u5, hu5, hf⟩ := obb hf
  refine c_bast hu5 dX2_settles_176 ?_
  refine j_iinc dX2_settles_177 2 rfl [(2, pI (v2 + 1)), (0, pR v0), (1, pI v1), (3, pI v3)] (Nat.le_of_ble_eq_true rfl) rfl ?_
  refine j_goto 28 dX2_settles_180 (by decide) ?_
  exact j_sub [1, 2, 0] _ rfl (hkh (v2 + 1) u5 hf)
theorem t2_settles_l28 {G : CG} {A : Nat → Prop} {l : Launch} {a : List PV} {r : Int × Sg} {Kf : (Sg) ⊕ (Sg) → Option (Int × Sg)} (v0 : Option Nat) (v1 : Int) (hK0 : ∀ q : Sg, Kf (.inl q) = some r → JW kC (bC G A) A l D2_settles a (jQ (bC G A) A a (some (pI r.1)) r.2 0 0) 0 0 q 0 0 160 [] []) (hK1 : ∀ q : Sg, Kf (.inr q) = some r → JW kC (bC G A) A l D2_settles a (jQ (bC G A) A a (some (pI r.1)) r.2 0 0) 0 0 q 0 0 183 [] []) : ∀ (n : Nat) (v2 : Int) (u : Sg), ((f2_settles_l28 G v0 v1 n v2 u).bind Kf = some r) → JW kC (bC G A) A l D2_settles a (jQ (bC G A) A a (some (pI r.1)) r.2 0 0) 0 0 u 0 0 28 [(0, pR v0), (1, pI v1), (2, pI v2)] [] := by
  intro n
  induction n with
  | zero => intro v2 u hf; exact onb hf
  | succ n ih =>
    intro v2 u hf
    unfold f2_settles_l28 at hf
    refine j_iload_n dX2_settles_28 2 rfl ?_
    refine j_aload_n dX2_settles_29 0 rfl ?_
    obtain ⟨x1, hx1, hf⟩ := obb hf
    refine c_geta (ci := 2) (k := 0) hx1 zcl_2 (Nat.le_of_ble_eq_true rfl) zf_X2_29 fk_80 dX2_settles_30 ?_
    obtain ⟨x2, hx2, hf⟩ := obb hf
    refine c_getiN (ci := 6) (k := 11) hx2 zcl_6 (Nat.le_of_ble_eq_true rfl) zf_X2_73 fk_251 dX2_settles_33 ?_
    refine j_icmp_ge (w32 v2) (w32 x2) rfl rfl 183 dX2_settles_36 (by decide) (fun h17 => ?_) (fun h17 => ?_)
    · replace hf := itb h17 hf
      exact j_sub [] _ rfl (hK1 u hf)
    · replace hf := ieb h17 hf
      refine j_aload_n dX2_settles_39 0 rfl ?_
      refine j_iload_n dX2_settles_40 2 rfl ?_
      refine j_aload_n dX2_settles_41 0 rfl ?_
      obtain ⟨x3, hx3, hf⟩ := obb hf
      refine c_geti (ci := 2) (k := 2) hx3 zcl_2 (Nat.le_of_ble_eq_true rfl) zf_X2_33 fk_82 dX2_settles_42 ?_
      obtain ⟨b4, hb4, hf⟩ := obb hf
      obtain ⟨eb4, tb4⟩ := ztg_s hb4
      obtain ⟨x5, hx5, hf⟩ := obb hf
      refine a_Vr [pI v2, pI x3] [] (t2_isOne (some b4) v2 x3 u hx5) ⟨q1522, q1524, qs42, q133, q1525⟩ dv2_isOne rfl ⟨(Nat.le_of_ble_eq_true rfl), (Nat.le_of_ble_eq_true rfl)⟩ (c_recv zcl_2 tb4) (by rw [← eb4]; rfl) (Nat.le_of_ble_eq_true rfl) dX2_settles_45 ⟨Nat.le_refl 0, Nat.le_refl 0⟩ ?_
      refine j_if_ne (w32 x5) rfl 54 dX2_settles_48 (by decide) (fun h16 => ?_) (fun h16 => ?_)
      · replace hf := ieb h16 hf
        refine j_iconst dX2_settles_54 ?_
        refine j_istore_n dX2_settles_55 [(3, pI 0), (0, pR v0), (1, pI v1), (2, pI v2)] (Nat.le_of_ble_eq_true rfl) rfl ?_
        refine j_iconst dX2_settles_56 ?_
        refine j_istore dX2_settles_57 [(4, pI 0), (3, pI 0), (0, pR v0), (1, pI v1), (2, pI v2)] (Nat.le_of_ble_eq_true rfl) rfl ?_
        replace hf := oba hf
        refine j_sub [2, 3, 4, 1, 0] _ rfl (t2_settles_l59 v0 v1 v2 u ?_ NN 0 0 hf)
        · intro q6 hf
          refine j_aload_n dX2_settles_133 0 rfl ?_
          obtain ⟨x7, hx7, hf⟩ := obb hf
          refine c_geta (ci := 2) (k := 5) hx7 zcl_2 (Nat.le_of_ble_eq_true rfl) zf_X2_25 fk_85 dX2_settles_134 ?_
          refine j_iload_n dX2_settles_137 3 rfl ?_
          obtain ⟨x8, hx8, hf⟩ := obb hf
          refine c_bald hx8 dX2_settles_138 ?_
          refine j_if_lt (w32 x8) rfl 162 dX2_settles_139 (by decide) (fun h15 => ?_) (fun h15 => ?_)
          · replace hf := itb h15 hf
            exact j_sub [0, 1, 2, 3] _ rfl (t2_settles_b162 (f2_settles_l28 G v0 v1 n) ih hK0 hK1 v2 q6 u hf)
          · replace hf := ieb h15 hf
            refine j_aload_n dX2_settles_142 0 rfl ?_
            obtain ⟨x9, hx9, hf⟩ := obb hf
            refine c_geta (ci := 2) (k := 5) hx9 zcl_2 (Nat.le_of_ble_eq_true rfl) zf_X2_25 fk_85 dX2_settles_143 ?_
            refine j_iload_n dX2_settles_146 3 rfl ?_
            obtain ⟨x10, hx10, hf⟩ := obb hf
            refine c_bald hx10 dX2_settles_147 ?_
            refine j_aload_n dX2_settles_148 0 rfl ?_
            obtain ⟨x11, hx11, hf⟩ := obb hf
            refine c_geta (ci := 2) (k := 0) hx11 zcl_2 (Nat.le_of_ble_eq_true rfl) zf_X2_29 fk_80 dX2_settles_149 ?_
            obtain ⟨x12, hx12, hf⟩ := obb hf
            refine c_getaN (ci := 6) (k := 12) hx12 zcl_6 (Nat.le_of_ble_eq_true rfl) zf_X2_79 fk_252 dX2_settles_152 ?_
            refine j_iload_n dX2_settles_155 2 rfl ?_
            obtain ⟨x13, hx13, hf⟩ := obb hf
            refine c_bald hx13 dX2_settles_156 ?_
            refine j_icmp_eq (w32 x10) (w32 x13) rfl rfl 162 dX2_settles_157 (by decide) (fun h14 => ?_) (fun h14 => ?_)
            · replace hf := itb h14 hf
              exact j_sub [0, 1, 2, 3] _ rfl (t2_settles_b162 (f2_settles_l28 G v0 v1 n) ih hK0 hK1 v2 q6 u hf)
            · replace hf := ieb h14 hf
              exact j_sub [] _ rfl (hK0 u hf)
      · replace hf := itb h16 hf
        refine j_goto 177 dX2_settles_51 (by decide) ?_
        refine j_iinc dX2_settles_177 2 rfl [(2, pI (v2 + 1)), (0, pR v0), (1, pI v1)] (Nat.le_of_ble_eq_true rfl) rfl ?_
        refine j_goto 28 dX2_settles_180 (by decide) ?_
        exact j_sub [1, 2, 0] _ rfl (ih (v2 + 1) u hf)
theorem t2_settles {G : CG} {A : Nat → Prop} {l : Launch} {r : Int × Sg} (v0 : Option Nat) (v1 : Int) (u : Sg) (hf : f2_settles G v0 v1 u = some r) : JM kC (bC G A) A l yX2_settles D2_settles [pR v0, pI v1] u (some (pI r.1)) r.2 0 0 := by
  refine j_met (lv0 := [(0, pR v0), (1, pI v1)]) ⟨pl_X2, rfl, rfl, (Nat.le_of_ble_eq_true rfl), rfl⟩ ?_
  unfold f2_settles at hf
  refine j_iconst dX2_settles_0 ?_
  refine j_istore_n dX2_settles_1 [(2, pI 0), (0, pR v0), (1, pI v1)] (Nat.le_of_ble_eq_true rfl) rfl ?_
  refine j_sub [1, 2, 0] _ rfl (t2_settles_l2 v0 v1 ?_ NN 0 u hf)
  · intro q1 hf
    refine j_iconst dX2_settles_26 ?_
    refine j_istore_n dX2_settles_27 [(2, pI 0), (0, pR v0), (1, pI v1)] (Nat.le_of_ble_eq_true rfl) rfl ?_
    refine j_sub [1, 2, 0] _ rfl (t2_settles_l28 v0 v1 ?_ ?_ NN 0 q1 hf)
    · intro q2 hf
      simp only [Sum.elim_inl, Sum.elim_inr] at hf
      refine j_iconst dX2_settles_160 ?_
      replace hf := Option.some.inj hf
      subst hf
      exact j_zreturn (x := 0) (bC_mv G A) ⟨Nat.le_refl 0, Nat.le_refl 0⟩ (ty := .boolean) rfl (nar_z (Or.inl rfl)) dX2_settles_161
    · intro q3 hf
      simp only [Sum.elim_inl, Sum.elim_inr] at hf
      refine j_iconst dX2_settles_183 ?_
      replace hf := Option.some.inj hf
      subst hf
      exact j_zreturn (x := 1) (bC_mv G A) ⟨Nat.le_refl 0, Nat.le_refl 0⟩ (ty := .boolean) rfl (nar_z (Or.inr rfl)) dX2_settles_184
theorem t2_least_b98 {G : CG} {A : Nat → Prop} {l : Launch} {a : List PV} {r : Int × Sg} {Kf : Int × Sg → Option (Int × Sg)} {v0 : Option Nat} {v1 : Int} {v2 : Int} {v3 : Int} (kh : Int → Int → Sg → Option (Int × Sg)) (hkh : ∀ (z4 : Int) (z5 : Int) (zu : Sg), ((kh z4 z5 zu).bind Kf = some r) → JW kC (bC G A) A l D2_least a (jQ (bC G A) A a (some (pI r.1)) r.2 0 0) 0 0 zu 0 0 43 [(0, pR v0), (1, pI v1), (2, pI v2), (3, pI v3), (4, pI z4), (5, pI z5)] []) (hK0 : ∀ q : Int × Sg, Kf q = some r → JW kC (bC G A) A l D2_least a (jQ (bC G A) A a (some (pI r.1)) r.2 0 0) 0 0 q.2 0 0 108 [(4, pI q.1)] []) (v5 : Int) (u : Sg) (hf : (f2_least_b98 G kh v0 v1 v2 v3 v5 u).bind Kf = some r) : JW kC (bC G A) A l D2_least a (jQ (bC G A) A a (some (pI r.1)) r.2 0 0) 0 0 u 0 0 98 [(0, pR v0), (1, pI v1), (2, pI v2), (3, pI v3), (5, pI v5)] [] := by
  unfold f2_least_b98 at hf
  refine j_iload dX2_least_98 4 rfl ?_
  refine j_istore dX2_least_100 [(4, pI v5), (0, pR v0), (1, pI v1), (2, pI v2), (3, pI v3), (5, pI v5)] (Nat.le_of_ble_eq_true rfl) rfl ?_
  refine j_iinc dX2_least_102 5 rfl [(5, pI (v5 + 1)), (4, pI v5), (0, pR v0), (1, pI v1), (2, pI v2), (3, pI v3)] (Nat.le_of_ble_eq_true rfl) rfl ?_
  refine j_goto 43 dX2_least_105 (by decide) ?_
  exact j_sub [2, 3, 4, 5, 1, 0] _ rfl (hkh v5 (v5 + 1) u hf)
theorem t2_least_l43 {G : CG} {A : Nat → Prop} {l : Launch} {a : List PV} {r : Int × Sg} {Kf : Int × Sg → Option (Int × Sg)} (v0 : Option Nat) (v1 : Int) (v2 : Int) (v3 : Int) (hK0 : ∀ q : Int × Sg, Kf q = some r → JW kC (bC G A) A l D2_least a (jQ (bC G A) A a (some (pI r.1)) r.2 0 0) 0 0 q.2 0 0 108 [(4, pI q.1)] []) : ∀ (n : Nat) (v4 : Int) (v5 : Int) (u : Sg), ((f2_least_l43 G v0 v1 v2 v3 n v4 v5 u).bind Kf = some r) → JW kC (bC G A) A l D2_least a (jQ (bC G A) A a (some (pI r.1)) r.2 0 0) 0 0 u 0 0 43 [(0, pR v0), (1, pI v1), (2, pI v2), (3, pI v3), (4, pI v4), (5, pI v5)] [] := by
  intro n
  induction n with
  | zero => intro v4 v5 u hf; exact onb hf
  | succ n ih =>
    intro v4 v5 u hf
    unfold f2_least_l43 at hf
    refine j_iload dX2_least_43 5 rfl ?_
    refine j_iload_n dX2_least_45 2 rfl ?_
    refine j_icmp_gt (w32 v5) (w32 v2) rfl rfl 108 dX2_least_46 (by decide) (fun h12 => ?_) (fun h12 => ?_)
    · replace hf := itb h12 hf
      exact j_sub [4] _ rfl (hK0 (v4, u) hf)
    · replace hf := ieb h12 hf
      refine j_iload dX2_least_49 5 rfl ?_
      refine j_iload_n dX2_least_51 3 rfl ?_
      refine j_iconst dX2_least_52 ?_
      refine j_ixor dX2_least_53 ?_
      refine j_iand dX2_least_54 ?_
      refine j_if_ne (w32 (and32 v5 (xor32 v3 (-1)))) rfl 102 dX2_least_55 (by decide) (fun h11 => ?_) (fun h11 => ?_)
      · replace hf := ieb h11 hf
        refine j_iinc dX2_least_102 5 rfl [(5, pI (v5 + 1)), (0, pR v0), (1, pI v1), (2, pI v2), (3, pI v3), (4, pI v4)] (Nat.le_of_ble_eq_true rfl) rfl ?_
        refine j_goto 43 dX2_least_105 (by decide) ?_
        exact j_sub [1, 2, 3, 4, 5, 0] _ rfl (ih v4 (v5 + 1) u hf)
      · replace hf := itb h11 hf
        refine j_aload_n dX2_least_58 0 rfl ?_
        refine j_iload dX2_least_59 5 rfl ?_
        refine j_iload dX2_least_61 4 rfl ?_
        obtain ⟨b1, hb1, hf⟩ := obb hf
        obtain ⟨eb1, tb1⟩ := ztg_s hb1
        obtain ⟨x2, hx2, hf⟩ := obb hf
        refine a_Vr [pI v5, pI v4] [] (t2_isBefore (some b1) v5 v4 u hx2) ⟨q1538, q1539, q1540, q133, q1541⟩ dv2_isBefore rfl ⟨(Nat.le_of_ble_eq_true rfl), (Nat.le_of_ble_eq_true rfl)⟩ (c_recv zcl_2 tb1) (by rw [← eb1]; rfl) (Nat.le_of_ble_eq_true rfl) dX2_least_63 ⟨Nat.le_refl 0, Nat.le_refl 0⟩ ?_
        refine j_if_ne (w32 x2) rfl 72 dX2_least_66 (by decide) (fun h10 => ?_) (fun h10 => ?_)
        · replace hf := ieb h10 hf
          refine j_iload_n dX2_least_72 1 rfl ?_
          refine j_if_eq (w32 v1) rfl 89 dX2_least_73 (by decide) (fun h9 => ?_) (fun h9 => ?_)
          · replace hf := itb h9 hf
            refine j_aload_n dX2_least_89 0 rfl ?_
            refine j_iload dX2_least_90 5 rfl ?_
            obtain ⟨b3, hb3, hf⟩ := obb hf
            obtain ⟨eb3, tb3⟩ := ztg_s hb3
            obtain ⟨q4, hq4, hf⟩ := obb hf
            refine a_Vr [pI v5] [] (t2_settles (some b3) v5 u hq4) ⟨q1552, q1553, q1554, q133, q1555⟩ dv2_settles rfl ⟨(Nat.le_of_ble_eq_true rfl), (Nat.le_of_ble_eq_true rfl)⟩ (c_recv zcl_2 tb3) (by rw [← eb3]; rfl) (Nat.le_of_ble_eq_true rfl) dX2_least_92 ⟨Nat.le_refl 0, Nat.le_refl 0⟩ ?_
            refine j_if_eq (w32 q4.1) rfl 102 dX2_least_95 (by decide) (fun h5 => ?_) (fun h5 => ?_)
            · replace hf := itb h5 hf
              refine j_iinc dX2_least_102 5 rfl [(5, pI (v5 + 1)), (0, pR v0), (1, pI v1), (2, pI v2), (3, pI v3), (4, pI v4)] (Nat.le_of_ble_eq_true rfl) rfl ?_
              refine j_goto 43 dX2_least_105 (by decide) ?_
              exact j_sub [1, 2, 3, 4, 5, 0] _ rfl (ih v4 (v5 + 1) q4.2 hf)
            · replace hf := ieb h5 hf
              exact j_sub [0, 1, 2, 3, 5] _ rfl (t2_least_b98 (f2_least_l43 G v0 v1 v2 v3 n) ih hK0 v5 q4.2 hf)
          · replace hf := ieb h9 hf
            refine j_aload_n dX2_least_76 0 rfl ?_
            refine j_iload dX2_least_77 5 rfl ?_
            obtain ⟨b6, hb6, hf⟩ := obb hf
            obtain ⟨eb6, tb6⟩ := ztg_s hb6
            obtain ⟨q7, hq7, hf⟩ := obb hf
            refine a_Vr [pI v5] [] (t2_answerBy (some b6) v5 u hq7) ⟨q1551, q1515, q1516, q133, q1517⟩ dv2_answerBy rfl ⟨(Nat.le_of_ble_eq_true rfl), (Nat.le_of_ble_eq_true rfl)⟩ (c_recv zcl_2 tb6) (by rw [← eb6]; rfl) (Nat.le_of_ble_eq_true rfl) dX2_least_79 ⟨Nat.le_refl 0, Nat.le_refl 0⟩ ?_
            refine j_iconst dX2_least_82 ?_
            refine j_icmp_eq (w32 q7.1) 2 rfl rfl 102 dX2_least_83 (by decide) (fun h8 => ?_) (fun h8 => ?_)
            · replace hf := itb h8 hf
              refine j_iinc dX2_least_102 5 rfl [(5, pI (v5 + 1)), (0, pR v0), (1, pI v1), (2, pI v2), (3, pI v3), (4, pI v4)] (Nat.le_of_ble_eq_true rfl) rfl ?_
              refine j_goto 43 dX2_least_105 (by decide) ?_
              exact j_sub [1, 2, 3, 4, 5, 0] _ rfl (ih v4 (v5 + 1) q7.2 hf)
            · replace hf := ieb h8 hf
              refine j_goto 98 dX2_least_86 (by decide) ?_
              exact j_sub [0, 1, 2, 3, 5] _ rfl (t2_least_b98 (f2_least_l43 G v0 v1 v2 v3 n) ih hK0 v5 q7.2 hf)
        · replace hf := itb h10 hf
          refine j_goto 102 dX2_least_69 (by decide) ?_
          refine j_iinc dX2_least_102 5 rfl [(5, pI (v5 + 1)), (0, pR v0), (1, pI v1), (2, pI v2), (3, pI v3), (4, pI v4)] (Nat.le_of_ble_eq_true rfl) rfl ?_
          refine j_goto 43 dX2_least_105 (by decide) ?_
          exact j_sub [1, 2, 3, 4, 5, 0] _ rfl (ih v4 (v5 + 1) u hf)
theorem t2_least_b36 {G : CG} {A : Nat → Prop} {l : Launch} {a : List PV} {r : Int × Sg} (v0 : Option Nat) (v1 : Int) (v2 : Int) (s0 : Int) (u : Sg) (hf : f2_least_b36 G v0 v1 v2 s0 u = some r) : JW kC (bC G A) A l D2_least a (jQ (bC G A) A a (some (pI r.1)) r.2 0 0) 0 0 u 0 0 36 [(0, pR v0), (1, pI v1), (2, pI v2)] [pI s0] := by
  unfold f2_least_b36 at hf
  refine j_istore_n dX2_least_36 [(3, pI s0), (0, pR v0), (1, pI v1), (2, pI v2)] (Nat.le_of_ble_eq_true rfl) rfl ?_
  refine j_iconst dX2_least_37 ?_
  refine j_istore dX2_least_38 [(4, pI (-1)), (3, pI s0), (0, pR v0), (1, pI v1), (2, pI v2)] (Nat.le_of_ble_eq_true rfl) rfl ?_
  refine j_iconst dX2_least_40 ?_
  refine j_istore dX2_least_41 [(5, pI 0), (4, pI (-1)), (3, pI s0), (0, pR v0), (1, pI v1), (2, pI v2)] (Nat.le_of_ble_eq_true rfl) rfl ?_
  refine j_sub [3, 4, 5, 2, 1, 0] _ rfl (t2_least_l43 v0 v1 v2 s0 ?_ NN (-1) 0 u hf)
  · intro q1 hf
    refine j_iload dX2_least_108 0 rfl ?_
    replace hf := Option.some.inj hf
    subst hf
    exact j_ireturn (bC_mv G A) ⟨Nat.le_refl 0, Nat.le_refl 0⟩ rfl dX2_least_110
theorem t2_least {G : CG} {A : Nat → Prop} {l : Launch} {r : Int × Sg} (v0 : Option Nat) (v1 : Int) (u : Sg) (hf : f2_least G v0 v1 u = some r) : JM kC (bC G A) A l yX2_least D2_least [pR v0, pI v1] u (some (pI r.1)) r.2 0 0 := by
  refine j_met (lv0 := [(0, pR v0), (1, pI v1)]) ⟨pl_X2, rfl, rfl, (Nat.le_of_ble_eq_true rfl), rfl⟩ ?_
  unfold f2_least at hf
  refine j_iconst dX2_least_0 ?_
  refine j_aload_n dX2_least_1 0 rfl ?_
  obtain ⟨x1, hx1, hf⟩ := ob hf
  refine c_geta (ci := 2) (k := 0) hx1 zcl_2 (Nat.le_of_ble_eq_true rfl) zf_X2_29 fk_80 dX2_least_2 ?_
  obtain ⟨x2, hx2, hf⟩ := ob hf
  refine c_getaN (ci := 6) (k := 0) hx2 zcl_6 (Nat.le_of_ble_eq_true rfl) zf_X2_37 fk_240 dX2_least_5 ?_
  obtain ⟨b3, hb3, hf⟩ := ob hf
  obtain ⟨eb3, tb3⟩ := ztg_s hb3
  obtain ⟨x4, hx4, hf⟩ := ob hf
  refine a_Fr (x := ix_0) [] [pI 1] (tJ2_size (some b3) u hx4) ⟨q1507, q559, q561, q131, q563⟩ iF_0 df_0 rfl ⟨(Nat.le_of_ble_eq_true rfl), (Nat.le_of_ble_eq_true rfl)⟩ zcl_5 rfl tb3 (by rw [← eb3]; rfl) (Nat.le_of_ble_eq_true rfl) dX2_least_8 ⟨Nat.le_refl 0, Nat.le_refl 0⟩ ?_
  refine j_ishl dX2_least_13 ?_
  refine j_iconst dX2_least_14 ?_
  refine j_isub dX2_least_15 ?_
  refine j_istore_n dX2_least_16 [(2, pI ((shl32 1 x4) - 1)), (0, pR v0), (1, pI v1)] (Nat.le_of_ble_eq_true rfl) rfl ?_
  refine j_iload_n dX2_least_17 2 rfl ?_
  refine j_if_eq (w32 v1) rfl 28 dX2_least_18 (by decide) (fun h7 => ?_) (fun h7 => ?_)
  · replace hf := it h7 hf
    refine j_iload_n dX2_least_28 0 rfl ?_
    refine j_aload_n dX2_least_29 1 rfl ?_
    obtain ⟨x5, hx5, hf⟩ := ob hf
    refine c_geti (ci := 2) (k := 2) hx5 zcl_2 (Nat.le_of_ble_eq_true rfl) zf_X2_33 fk_82 dX2_least_30 ?_
    refine j_iconst dX2_least_33 ?_
    refine j_ixor dX2_least_34 ?_
    refine j_iand dX2_least_35 ?_
    exact j_sub [1, 2, 0] _ rfl (t2_least_b36 v0 v1 ((shl32 1 x4) - 1) (and32 ((shl32 1 x4) - 1) (xor32 x5 (-1))) u hf)
  · replace hf := ie h7 hf
    refine j_aload_n dX2_least_21 1 rfl ?_
    obtain ⟨x6, hx6, hf⟩ := ob hf
    refine c_geti (ci := 2) (k := 2) hx6 zcl_2 (Nat.le_of_ble_eq_true rfl) zf_X2_33 fk_82 dX2_least_22 ?_
    refine j_goto 36 dX2_least_25 (by decide) ?_
    exact j_sub [1, 2, 0] _ rfl (t2_least_b36 v0 v1 ((shl32 1 x4) - 1) x6 u hf)
theorem t0_settles {G : CG} {A : Nat → Prop} {l : Launch} {r : Int × Sg} (v0 : Option Nat) (v1 : Int) (v2 : Int) (u : Sg) (hf : f0_settles G v0 v1 v2 u = some r) : JM kC (bC G A) A l yX0_settles D0_settles [pR v0, pI v1, pI v2] u (some (pI r.1)) r.2 0 0 := by
  refine j_met (lv0 := [(0, pR v0), (1, pI v1), (2, pI v2)]) ⟨pl_X0, rfl, rfl, (Nat.le_of_ble_eq_true rfl), rfl⟩ ?_
  unfold f0_settles at hf
  refine j_aload_n dX0_settles_0 0 rfl ?_
  refine j_iload_n dX0_settles_1 1 rfl ?_
  refine j_iload_n dX0_settles_2 2 rfl ?_
  obtain ⟨b1, hb1, hf⟩ := ob hf
  obtain ⟨eb1, tb1⟩ := ztg_s hb1
  obtain ⟨q2, hq2, hf⟩ := ob hf
  refine a_Vr [pI v1, pI v2] [] (t0_look (some b1) v1 v2 u hq2) ⟨q1498, q1500, qs41, q128, q1501⟩ dv0_look rfl ⟨(Nat.le_of_ble_eq_true rfl), (Nat.le_of_ble_eq_true rfl)⟩ (c_recv zcl_0 tb1) (by rw [← eb1]; rfl) (Nat.le_of_ble_eq_true rfl) dX0_settles_3 ⟨Nat.le_refl 0, Nat.le_refl 0⟩ ?_
  refine j_istore_n dX0_settles_6 [(3, pI q2.1), (0, pR v0), (1, pI v1), (2, pI v2)] (Nat.le_of_ble_eq_true rfl) rfl ?_
  refine j_iload_n dX0_settles_7 0 rfl ?_
  refine j_if_ge (w32 q2.1) rfl 15 dX0_settles_8 (by decide) (fun h6 => ?_) (fun h6 => ?_)
  · replace hf := it h6 hf
    refine j_aload_n dX0_settles_15 1 rfl ?_
    obtain ⟨x3, hx3, hf⟩ := ob hf
    refine c_geta (ci := 0) (k := 14) hx3 zcl_0 (Nat.le_of_ble_eq_true rfl) zf_X0_117 fk_14 dX0_settles_16 ?_
    refine j_iconst dX0_settles_19 ?_
    obtain ⟨b4, hb4, hf⟩ := ob hf
    obtain ⟨eb4, tb4⟩ := ztg_s hb4
    obtain ⟨q5, hq5, hf⟩ := ob hf
    refine a_Vr [pI 0] [] (t2_least (some b4) 0 q2.2 hq5) ⟨q1534, q1535, q1536, q133, q1537⟩ dv2_least rfl ⟨(Nat.le_of_ble_eq_true rfl), (Nat.le_of_ble_eq_true rfl)⟩ (c_recv zcl_2 tb4) (by rw [← eb4]; rfl) (Nat.le_of_ble_eq_true rfl) dX0_settles_20 ⟨Nat.le_refl 0, Nat.le_refl 0⟩ ?_
    replace hf := Option.some.inj hf
    subst hf
    exact j_ireturn (bC_mv G A) ⟨Nat.le_refl 0, Nat.le_refl 0⟩ rfl dX0_settles_23
  · replace hf := ie h6 hf
    refine j_iload_n dX0_settles_11 0 rfl ?_
    refine j_goto 23 dX0_settles_12 (by decide) ?_
    replace hf := Option.some.inj hf
    subst hf
    exact j_ireturn (bC_mv G A) ⟨Nat.le_refl 0, Nat.le_refl 0⟩ rfl dX0_settles_23
theorem t0_because {G : CG} {A : Nat → Prop} {l : Launch} {r : Int × Sg} (v0 : Option Nat) (v1 : Int) (v2 : Int) (u : Sg) (hf : f0_because G v0 v1 v2 u = some r) : JM kC (bC G A) A l yX0_because D0_because [pR v0, pI v1, pI v2] u (some (pI r.1)) r.2 0 0 := by
  refine j_met (lv0 := [(0, pR v0), (1, pI v1), (2, pI v2)]) ⟨pl_X0, rfl, rfl, (Nat.le_of_ble_eq_true rfl), rfl⟩ ?_
  unfold f0_because at hf
  refine j_aload_n dX0_because_0 0 rfl ?_
  refine j_iload_n dX0_because_1 1 rfl ?_
  refine j_iload_n dX0_because_2 2 rfl ?_
  obtain ⟨b1, hb1, hf⟩ := ob hf
  obtain ⟨eb1, tb1⟩ := ztg_s hb1
  obtain ⟨q2, hq2, hf⟩ := ob hf
  refine a_Vr [pI v1, pI v2] [] (t0_look (some b1) v1 v2 u hq2) ⟨q1498, q1500, qs41, q128, q1501⟩ dv0_look rfl ⟨(Nat.le_of_ble_eq_true rfl), (Nat.le_of_ble_eq_true rfl)⟩ (c_recv zcl_0 tb1) (by rw [← eb1]; rfl) (Nat.le_of_ble_eq_true rfl) dX0_because_3 ⟨Nat.le_refl 0, Nat.le_refl 0⟩ ?_
  refine j_istore_n dX0_because_6 [(3, pI q2.1), (0, pR v0), (1, pI v1), (2, pI v2)] (Nat.le_of_ble_eq_true rfl) rfl ?_
  refine j_iload_n dX0_because_7 0 rfl ?_
  refine j_if_ge (w32 q2.1) rfl 13 dX0_because_8 (by decide) (fun h12 => ?_) (fun h12 => ?_)
  · replace hf := it h12 hf
    refine j_aload_n dX0_because_13 1 rfl ?_
    obtain ⟨x3, hx3, hf⟩ := ob hf
    refine c_geta (ci := 0) (k := 14) hx3 zcl_0 (Nat.le_of_ble_eq_true rfl) zf_X0_117 fk_14 dX0_because_14 ?_
    refine j_aload_n dX0_because_17 1 rfl ?_
    obtain ⟨x4, hx4, hf⟩ := ob hf
    refine c_geta (ci := 0) (k := 14) hx4 zcl_0 (Nat.le_of_ble_eq_true rfl) zf_X0_117 fk_14 dX0_because_18 ?_
    obtain ⟨x5, hx5, hf⟩ := ob hf
    refine c_getiN (ci := 2) (k := 2) hx5 zcl_2 (Nat.le_of_ble_eq_true rfl) zf_X0_362 fk_82 dX0_because_21 ?_
    obtain ⟨b6, hb6, hf⟩ := ob hf
    obtain ⟨eb6, tb6⟩ := ztg_s hb6
    obtain ⟨q7, hq7, hf⟩ := ob hf
    refine a_Vr [pI x5] [] (t2_answerBy (some b6) x5 q2.2 hq7) ⟨q1514, q1515, q1516, q133, q1517⟩ dv2_answerBy rfl ⟨(Nat.le_of_ble_eq_true rfl), (Nat.le_of_ble_eq_true rfl)⟩ (c_recv zcl_2 tb6) (by rw [← eb6]; rfl) (Nat.le_of_ble_eq_true rfl) dX0_because_24 ⟨Nat.le_refl 0, Nat.le_refl 0⟩ ?_
    refine j_iconst dX0_because_27 ?_
    refine j_icmp_ne (w32 q7.1) 2 rfl rfl 36 dX0_because_28 (by decide) (fun h11 => ?_) (fun h11 => ?_)
    · replace hf := ie h11 hf
      refine j_aload_n dX0_because_36 1 rfl ?_
      obtain ⟨x8, hx8, hf⟩ := ob hf
      refine c_geta (ci := 0) (k := 14) hx8 zcl_0 (Nat.le_of_ble_eq_true rfl) zf_X0_117 fk_14 dX0_because_37 ?_
      refine j_iconst dX0_because_40 ?_
      obtain ⟨b9, hb9, hf⟩ := ob hf
      obtain ⟨eb9, tb9⟩ := ztg_s hb9
      obtain ⟨q10, hq10, hf⟩ := ob hf
      refine a_Vr [pI 1] [] (t2_least (some b9) 1 q7.2 hq10) ⟨q1534, q1535, q1536, q133, q1537⟩ dv2_least rfl ⟨(Nat.le_of_ble_eq_true rfl), (Nat.le_of_ble_eq_true rfl)⟩ (c_recv zcl_2 tb9) (by rw [← eb9]; rfl) (Nat.le_of_ble_eq_true rfl) dX0_because_41 ⟨Nat.le_refl 0, Nat.le_refl 0⟩ ?_
      replace hf := Option.some.inj hf
      subst hf
      exact j_ireturn (bC_mv G A) ⟨Nat.le_refl 0, Nat.le_refl 0⟩ rfl dX0_because_44
    · replace hf := it h11 hf
      refine j_bipush dX0_because_31 (by decide) ?_
      refine j_goto 44 dX0_because_33 (by decide) ?_
      replace hf := Option.some.inj hf
      subst hf
      exact j_ireturn (bC_mv G A) ⟨Nat.le_refl 0, Nat.le_refl 0⟩ rfl dX0_because_44
  · replace hf := ie h12 hf
    refine j_iload_n dX0_because_11 0 rfl ?_
    replace hf := Option.some.inj hf
    subst hf
    exact j_ireturn (bC_mv G A) ⟨Nat.le_refl 0, Nat.le_refl 0⟩ rfl dX0_because_12
theorem t0_decider_l55 {G : CG} {A : Nat → Prop} {l : Launch} {a : List PV} {r : Int × Sg} {Kf : Int → Option (Int × Sg)} (v0 : Option Nat) (v4 : Option Nat) (u : Sg) (hK0 : ∀ q : Int, Kf q = some r → JW kC (bC G A) A l D0_decider a (jQ (bC G A) A a (some (pI r.1)) r.2 0 0) 0 0 u 0 0 102 [(4, pR v4), (5, pI q)] []) : ∀ (n : Nat) (v5 : Int) (v6 : Int), ((f0_decider_l55 G v0 v4 u n v5 v6).bind Kf = some r) → JW kC (bC G A) A l D0_decider a (jQ (bC G A) A a (some (pI r.1)) r.2 0 0) 0 0 u 0 0 55 [(0, pR v0), (4, pR v4), (5, pI v5), (6, pI v6)] [] := by
  intro n
  induction n with
  | zero => intro v5 v6 hf; exact onb hf
  | succ n ih =>
    intro v5 v6 hf
    unfold f0_decider_l55 at hf
    refine j_iload dX0_decider_55 3 rfl ?_
    refine j_aload dX0_decider_57 1 rfl ?_
    obtain ⟨x1, hx1, hf⟩ := obb hf
    refine c_getaN (ci := 6) (k := 0) hx1 zcl_6 (Nat.le_of_ble_eq_true rfl) zf_X0_240 fk_240 dX0_decider_59 ?_
    obtain ⟨b2, hb2, hf⟩ := obb hf
    obtain ⟨eb2, tb2⟩ := ztg_s hb2
    obtain ⟨x3, hx3, hf⟩ := obb hf
    refine a_Fr (x := ix_0) [] [pI v6] (tJ2_size (some b2) u hx3) ⟨q556, q559, q561, q131, q563⟩ iF_0 df_0 rfl ⟨(Nat.le_of_ble_eq_true rfl), (Nat.le_of_ble_eq_true rfl)⟩ zcl_5 rfl tb2 (by rw [← eb2]; rfl) (Nat.le_of_ble_eq_true rfl) dX0_decider_62 ⟨Nat.le_refl 0, Nat.le_refl 0⟩ ?_
    refine j_icmp_ge (w32 v6) (w32 x3) rfl rfl 102 dX0_decider_67 (by decide) (fun h10 => ?_) (fun h10 => ?_)
    · replace hf := itb h10 hf
      exact j_sub [1, 2] _ rfl (hK0 v5 hf)
    · replace hf := ieb h10 hf
      refine j_iload dX0_decider_70 2 rfl ?_
      refine j_aload_n dX0_decider_72 0 rfl ?_
      obtain ⟨x4, hx4, hf⟩ := obb hf
      refine c_geta (ci := 0) (k := 14) hx4 zcl_0 (Nat.le_of_ble_eq_true rfl) zf_X0_117 fk_14 dX0_decider_73 ?_
      obtain ⟨x5, hx5, hf⟩ := obb hf
      refine c_getaN (ci := 2) (k := 1) hx5 zcl_2 (Nat.le_of_ble_eq_true rfl) zf_X0_376 fk_81 dX0_decider_76 ?_
      refine j_iload dX0_decider_79 3 rfl ?_
      obtain ⟨x6, hx6, hf⟩ := obb hf
      refine c_iald hx6 dX0_decider_81 ?_
      refine j_aload_n dX0_decider_82 0 rfl ?_
      obtain ⟨x7, hx7, hf⟩ := obb hf
      refine c_geta (ci := 0) (k := 14) hx7 zcl_0 (Nat.le_of_ble_eq_true rfl) zf_X0_117 fk_14 dX0_decider_83 ?_
      obtain ⟨x8, hx8, hf⟩ := obb hf
      refine c_getaN (ci := 2) (k := 3) hx8 zcl_2 (Nat.le_of_ble_eq_true rfl) zf_X0_378 fk_83 dX0_decider_86 ?_
      refine j_iload dX0_decider_89 3 rfl ?_
      obtain ⟨x9, hx9, hf⟩ := obb hf
      refine c_iald hx9 dX0_decider_91 ?_
      refine j_imul dX0_decider_92 ?_
      refine j_iadd dX0_decider_93 ?_
      refine j_istore dX0_decider_94 [(5, pI (v5 + (x6 * x9))), (0, pR v0), (4, pR v4), (6, pI v6)] (Nat.le_of_ble_eq_true rfl) rfl ?_
      refine j_iinc dX0_decider_96 3 rfl [(6, pI (v6 + 1)), (5, pI (v5 + (x6 * x9))), (0, pR v0), (4, pR v4)] (Nat.le_of_ble_eq_true rfl) rfl ?_
      refine j_goto 55 dX0_decider_99 (by decide) ?_
      exact j_sub [2, 3, 1, 0] _ rfl (ih (v5 + (x6 * x9)) (v6 + 1) hf)
theorem t0_decider {G : CG} {A : Nat → Prop} {l : Launch} {r : Int × Sg} (v0 : Option Nat) (v1 : Int) (v2 : Int) (u : Sg) (hf : f0_decider G v0 v1 v2 u = some r) : JM kC (bC G A) A l yX0_decider D0_decider [pR v0, pI v1, pI v2] u (some (pI r.1)) r.2 0 0 := by
  refine j_met (lv0 := [(0, pR v0), (1, pI v1), (2, pI v2)]) ⟨pl_X0, rfl, rfl, (Nat.le_of_ble_eq_true rfl), rfl⟩ ?_
  unfold f0_decider at hf
  refine j_aload_n dX0_decider_0 0 rfl ?_
  refine j_iload_n dX0_decider_1 1 rfl ?_
  refine j_iload_n dX0_decider_2 2 rfl ?_
  obtain ⟨b1, hb1, hf⟩ := ob hf
  obtain ⟨eb1, tb1⟩ := ztg_s hb1
  obtain ⟨q2, hq2, hf⟩ := ob hf
  refine a_Vr [pI v1, pI v2] [] (t0_look (some b1) v1 v2 u hq2) ⟨q1498, q1500, qs41, q128, q1501⟩ dv0_look rfl ⟨(Nat.le_of_ble_eq_true rfl), (Nat.le_of_ble_eq_true rfl)⟩ (c_recv zcl_0 tb1) (by rw [← eb1]; rfl) (Nat.le_of_ble_eq_true rfl) dX0_decider_3 ⟨Nat.le_refl 0, Nat.le_refl 0⟩ ?_
  refine j_istore_n dX0_decider_6 [(3, pI q2.1), (0, pR v0), (1, pI v1), (2, pI v2)] (Nat.le_of_ble_eq_true rfl) rfl ?_
  refine j_iload_n dX0_decider_7 0 rfl ?_
  refine j_if_ge (w32 q2.1) rfl 13 dX0_decider_8 (by decide) (fun h14 => ?_) (fun h14 => ?_)
  · replace hf := it h14 hf
    refine j_aload_n dX0_decider_13 1 rfl ?_
    obtain ⟨x3, hx3, hf⟩ := ob hf
    refine c_geta (ci := 0) (k := 14) hx3 zcl_0 (Nat.le_of_ble_eq_true rfl) zf_X0_117 fk_14 dX0_decider_14 ?_
    obtain ⟨x4, hx4, hf⟩ := ob hf
    refine c_getaN (ci := 2) (k := 0) hx4 zcl_2 (Nat.le_of_ble_eq_true rfl) zf_X0_373 fk_80 dX0_decider_17 ?_
    refine j_astore dX0_decider_20 [(4, pR x4), (3, pI q2.1), (0, pR v0), (1, pI v1), (2, pI v2)] (Nat.le_of_ble_eq_true rfl) rfl ?_
    refine j_aload_n dX0_decider_22 2 rfl ?_
    obtain ⟨x5, hx5, hf⟩ := ob hf
    refine c_geta (ci := 0) (k := 14) hx5 zcl_0 (Nat.le_of_ble_eq_true rfl) zf_X0_117 fk_14 dX0_decider_23 ?_
    obtain ⟨x6, hx6, hf⟩ := ob hf
    refine c_getiN (ci := 2) (k := 2) hx6 zcl_2 (Nat.le_of_ble_eq_true rfl) zf_X0_362 fk_82 dX0_decider_26 ?_
    refine j_iconst dX0_decider_29 ?_
    refine j_aload dX0_decider_30 0 rfl ?_
    obtain ⟨x7, hx7, hf⟩ := ob hf
    refine c_getaN (ci := 6) (k := 0) hx7 zcl_6 (Nat.le_of_ble_eq_true rfl) zf_X0_240 fk_240 dX0_decider_32 ?_
    obtain ⟨b8, hb8, hf⟩ := ob hf
    obtain ⟨eb8, tb8⟩ := ztg_s hb8
    obtain ⟨x9, hx9, hf⟩ := ob hf
    refine a_Fr (x := ix_0) [] [pI 1, pI x6] (tJ2_size (some b8) q2.2 hx9) ⟨q556, q559, q561, q131, q563⟩ iF_0 df_0 rfl ⟨(Nat.le_of_ble_eq_true rfl), (Nat.le_of_ble_eq_true rfl)⟩ zcl_5 rfl tb8 (by rw [← eb8]; rfl) (Nat.le_of_ble_eq_true rfl) dX0_decider_35 ⟨Nat.le_refl 0, Nat.le_refl 0⟩ ?_
    refine j_ishl dX0_decider_40 ?_
    refine j_iconst dX0_decider_41 ?_
    refine j_isub dX0_decider_42 ?_
    refine j_icmp_eq (w32 x6) (w32 ((shl32 1 x9) - 1)) rfl rfl 49 dX0_decider_43 (by decide) (fun h13 => ?_) (fun h13 => ?_)
    · replace hf := it h13 hf
      refine j_iconst dX0_decider_49 ?_
      refine j_istore dX0_decider_50 [(5, pI 0), (4, pR x4), (3, pI q2.1), (0, pR v0), (1, pI v1), (2, pI v2)] (Nat.le_of_ble_eq_true rfl) rfl ?_
      refine j_iconst dX0_decider_52 ?_
      refine j_istore dX0_decider_53 [(6, pI 0), (5, pI 0), (4, pR x4), (3, pI q2.1), (0, pR v0), (1, pI v1), (2, pI v2)] (Nat.le_of_ble_eq_true rfl) rfl ?_
      refine j_sub [4, 2, 1, 0] _ rfl (t0_decider_l55 v0 x4 q2.2 ?_ NN 0 0 hf)
      · intro q10 hf
        refine j_aload dX0_decider_102 0 rfl ?_
        obtain ⟨x11, hx11, hf⟩ := ob hf
        refine c_getaN (ci := 6) (k := 13) hx11 zcl_6 (Nat.le_of_ble_eq_true rfl) zf_X0_381 fk_253 dX0_decider_104 ?_
        refine j_iload dX0_decider_107 1 rfl ?_
        obtain ⟨x12, hx12, hf⟩ := ob hf
        refine c_bald hx12 dX0_decider_109 ?_
        replace hf := Option.some.inj hf
        subst hf
        exact j_ireturn (bC_mv G A) ⟨Nat.le_refl 0, Nat.le_refl 0⟩ rfl dX0_decider_110
    · replace hf := ie h13 hf
      refine j_bipush dX0_decider_46 (by decide) ?_
      replace hf := Option.some.inj hf
      subst hf
      exact j_ireturn (bC_mv G A) ⟨Nat.le_refl 0, Nat.le_refl 0⟩ rfl dX0_decider_48
  · replace hf := ie h14 hf
    refine j_iload_n dX0_decider_11 0 rfl ?_
    replace hf := Option.some.inj hf
    subst hf
    exact j_ireturn (bC_mv G A) ⟨Nat.le_refl 0, Nat.le_refl 0⟩ rfl dX0_decider_12
theorem t0_ways {G : CG} {A : Nat → Prop} {l : Launch} {r : Int × Sg} (v0 : Option Nat) (v1 : Int) (v2 : Int) (v3 : Int) (u : Sg) (hf : f0_ways G v0 v1 v2 v3 u = some r) : JM kC (bC G A) A l yX0_ways D0_ways [pR v0, pI v1, pI v2, pI v3] u (some (pI r.1)) r.2 0 0 := by
  refine j_met (lv0 := [(0, pR v0), (1, pI v1), (2, pI v2), (3, pI v3)]) ⟨pl_X0, rfl, rfl, (Nat.le_of_ble_eq_true rfl), rfl⟩ ?_
  unfold f0_ways at hf
  refine j_aload_n dX0_ways_0 0 rfl ?_
  refine j_iload_n dX0_ways_1 1 rfl ?_
  obtain ⟨b1, hb1, hf⟩ := ob hf
  obtain ⟨eb1, tb1⟩ := ztg_s hb1
  obtain ⟨x2, hx2, hf⟩ := ob hf
  refine a_Vr [pI v1] [] (t0_isEvent (some b1) v1 u hx2) ⟨q1470, q1472, qs40, q128, q1473⟩ dv0_isEvent rfl ⟨(Nat.le_of_ble_eq_true rfl), (Nat.le_of_ble_eq_true rfl)⟩ (c_recv zcl_0 tb1) (by rw [← eb1]; rfl) (Nat.le_of_ble_eq_true rfl) dX0_ways_2 ⟨Nat.le_refl 0, Nat.le_refl 0⟩ ?_
  refine j_if_ne (w32 x2) rfl 10 dX0_ways_5 (by decide) (fun h17 => ?_) (fun h17 => ?_)
  · replace hf := ie h17 hf
    refine j_iload_n dX0_ways_10 2 rfl ?_
    obtain ⟨x3, hx3, hf⟩ := ob hf
    refine a_Sr [pI v2] [] (t0_isDay v2 u hx3) ⟨q1478, q1479, q128, q1480⟩ dv0_isDay rfl ⟨(Nat.le_of_ble_eq_true rfl), (Nat.le_of_ble_eq_true rfl)⟩ rfl (Nat.le_of_ble_eq_true rfl) dX0_ways_11 ⟨Nat.le_refl 0, Nat.le_refl 0⟩ ?_
    refine j_if_eq (w32 x3) rfl 26 dX0_ways_14 (by decide) (fun h16 => ?_) (fun h16 => ?_)
    · replace hf := it h16 hf
      refine j_bipush dX0_ways_26 (by decide) ?_
      replace hf := Option.some.inj hf
      subst hf
      exact j_ireturn (bC_mv G A) ⟨Nat.le_refl 0, Nat.le_refl 0⟩ rfl dX0_ways_28
    · replace hf := ie h16 hf
      refine j_iload_n dX0_ways_17 3 rfl ?_
      refine j_if_lt (w32 v3) rfl 26 dX0_ways_18 (by decide) (fun h15 => ?_) (fun h15 => ?_)
      · replace hf := it h15 hf
        refine j_bipush dX0_ways_26 (by decide) ?_
        replace hf := Option.some.inj hf
        subst hf
        exact j_ireturn (bC_mv G A) ⟨Nat.le_refl 0, Nat.le_refl 0⟩ rfl dX0_ways_28
      · replace hf := ie h15 hf
        refine j_iload_n dX0_ways_21 3 rfl ?_
        refine j_iconst dX0_ways_22 ?_
        refine j_icmp_le (w32 v3) 1 rfl rfl 29 dX0_ways_23 (by decide) (fun h14 => ?_) (fun h14 => ?_)
        · replace hf := it h14 hf
          refine j_aload_n dX0_ways_29 0 rfl ?_
          refine j_iload_n dX0_ways_30 1 rfl ?_
          refine j_iload_n dX0_ways_31 2 rfl ?_
          obtain ⟨b4, hb4, hf⟩ := ob hf
          obtain ⟨eb4, tb4⟩ := ztg_s hb4
          obtain ⟨q5, hq5, hf⟩ := ob hf
          refine a_Vr [pI v1, pI v2] [] (t0_look (some b4) v1 v2 u hq5) ⟨q1498, q1500, qs41, q128, q1501⟩ dv0_look rfl ⟨(Nat.le_of_ble_eq_true rfl), (Nat.le_of_ble_eq_true rfl)⟩ (c_recv zcl_0 tb4) (by rw [← eb4]; rfl) (Nat.le_of_ble_eq_true rfl) dX0_ways_32 ⟨Nat.le_refl 0, Nat.le_refl 0⟩ ?_
          refine j_pop dX0_ways_35 rfl ?_
          refine j_aload_n dX0_ways_36 0 rfl ?_
          obtain ⟨x6, hx6, hf⟩ := ob hf
          refine c_geta (ci := 0) (k := 14) hx6 zcl_0 (Nat.le_of_ble_eq_true rfl) zf_X0_117 fk_14 dX0_ways_37 ?_
          refine j_aload_n dX0_ways_40 0 rfl ?_
          obtain ⟨x7, hx7, hf⟩ := ob hf
          refine c_geta (ci := 0) (k := 14) hx7 zcl_0 (Nat.le_of_ble_eq_true rfl) zf_X0_117 fk_14 dX0_ways_41 ?_
          obtain ⟨x8, hx8, hf⟩ := ob hf
          refine c_getiN (ci := 2) (k := 2) hx8 zcl_2 (Nat.le_of_ble_eq_true rfl) zf_X0_362 fk_82 dX0_ways_44 ?_
          obtain ⟨b9, hb9, hf⟩ := ob hf
          obtain ⟨eb9, tb9⟩ := ztg_s hb9
          obtain ⟨u10, hu10, hf⟩ := ob hf
          refine a_Vv [pI x8] [] (t2_count (some b9) x8 q5.2 hu10) ⟨q1568, q1519, q1520, q133, q1521⟩ dv2_count rfl ⟨(Nat.le_of_ble_eq_true rfl), (Nat.le_of_ble_eq_true rfl)⟩ (c_recv zcl_2 tb9) (by rw [← eb9]; rfl) (Nat.le_of_ble_eq_true rfl) dX0_ways_47 ⟨Nat.le_refl 0, Nat.le_refl 0⟩ ?_
          refine j_aload_n dX0_ways_50 0 rfl ?_
          obtain ⟨x11, hx11, hf⟩ := ob hf
          refine c_geta (ci := 0) (k := 14) hx11 zcl_0 (Nat.le_of_ble_eq_true rfl) zf_X0_117 fk_14 dX0_ways_51 ?_
          obtain ⟨x12, hx12, hf⟩ := ob hf
          refine c_getaN (ci := 2) (k := 4) hx12 zcl_2 (Nat.le_of_ble_eq_true rfl) zf_X0_388 fk_84 dX0_ways_54 ?_
          refine j_iload_n dX0_ways_57 3 rfl ?_
          obtain ⟨x13, hx13, hf⟩ := ob hf
          refine c_iald hx13 dX0_ways_58 ?_
          replace hf := Option.some.inj hf
          subst hf
          exact j_ireturn (bC_mv G A) ⟨Nat.le_refl 0, Nat.le_refl 0⟩ rfl dX0_ways_59
        · replace hf := ie h14 hf
          refine j_bipush dX0_ways_26 (by decide) ?_
          replace hf := Option.some.inj hf
          subst hf
          exact j_ireturn (bC_mv G A) ⟨Nat.le_refl 0, Nat.le_refl 0⟩ rfl dX0_ways_28
  · replace hf := it h17 hf
    refine j_iconst dX0_ways_8 ?_
    replace hf := Option.some.inj hf
    subst hf
    exact j_ireturn (bC_mv G A) ⟨Nat.le_refl 0, Nat.le_refl 0⟩ rfl dX0_ways_9
theorem t0_rounded_b48 {G : CG} {A : Nat → Prop} {l : Launch} {a : List PV} {r : Int} (v4 : Int) (s0 : Int) (u : Sg) (hf : f0_rounded_b48 v4 s0 = some r) : JW kC (bC G A) A l D0_rounded a (jQ (bC G A) A a (some (pL r)) u 0 0) 0 0 u 0 0 48 [(4, pL v4)] [pI s0] := by
  unfold f0_rounded_b48 at hf
  refine j_istore dX0_rounded_48 [(8, pI s0), (4, pL v4)] (Nat.le_of_ble_eq_true rfl) rfl ?_
  refine j_iload dX0_rounded_50 0 rfl ?_
  refine j_if_eq (w32 s0) rfl 62 dX0_rounded_52 (by decide) (fun h1 => ?_) (fun h1 => ?_)
  · replace hf := it h1 hf
    refine j_lload dX0_rounded_62 1 rfl ?_
    replace hf := Option.some.inj hf
    subst hf
    exact j_lreturn (bC_mv G A) ⟨Nat.le_refl 0, Nat.le_refl 0⟩ rfl dX0_rounded_64
  · replace hf := ie h1 hf
    refine j_lload dX0_rounded_55 1 rfl ?_
    refine j_lconst (z := 1) dX0_rounded_57 rfl ?_
    refine j_ladd dX0_rounded_58 ?_
    refine j_goto 64 dX0_rounded_59 (by decide) ?_
    replace hf := Option.some.inj hf
    subst hf
    exact j_lreturn (bC_mv G A) ⟨Nat.le_refl 0, Nat.le_refl 0⟩ rfl dX0_rounded_64
theorem t0_rounded_b43 {G : CG} {A : Nat → Prop} {l : Launch} {a : List PV} {r : Int} (v4 : Int) (u : Sg) (hf : f0_rounded_b43 v4 = some r) : JW kC (bC G A) A l D0_rounded a (jQ (bC G A) A a (some (pL r)) u 0 0) 0 0 u 0 0 43 [(4, pL v4)] [] := by
  unfold f0_rounded_b43 at hf
  refine j_iconst dX0_rounded_43 ?_
  refine j_goto 48 dX0_rounded_44 (by decide) ?_
  exact j_sub [0] _ rfl (t0_rounded_b48 v4 1 u hf)
theorem t0_rounded_b47 {G : CG} {A : Nat → Prop} {l : Launch} {a : List PV} {r : Int} (v4 : Int) (u : Sg) (hf : f0_rounded_b47 v4 = some r) : JW kC (bC G A) A l D0_rounded a (jQ (bC G A) A a (some (pL r)) u 0 0) 0 0 u 0 0 47 [(4, pL v4)] [] := by
  unfold f0_rounded_b47 at hf
  refine j_iconst dX0_rounded_47 ?_
  exact j_sub [0] _ rfl (t0_rounded_b48 v4 0 u hf)
theorem t0_rounded {G : CG} {A : Nat → Prop} {l : Launch} {r : Int} (v0 : Int) (v2 : Int) (u : Sg) (hf : f0_rounded v0 v2 = some r) : JM kC (bC G A) A l yX0_rounded D0_rounded [pL v0, pL v2] u (some (pL r)) u 0 0 := by
  refine j_met (lv0 := [(0, pL v0), (2, pL v2)]) ⟨pl_X0, rfl, rfl, (Nat.le_of_ble_eq_true rfl), rfl⟩ ?_
  unfold f0_rounded at hf
  refine j_lload_n dX0_rounded_0 0 rfl ?_
  refine j_lload_n dX0_rounded_1 1 rfl ?_
  rcases Decidable.em (w64 v2 = 0) with h1 | h1
  · exact onn (it h1 hf)
  · replace hf := ie h1 hf
    refine j_ldiv dX0_rounded_2 h1 ?_
    refine j_lstore dX0_rounded_3 [(4, pL (div64 v0 v2)), (0, pL v0), (2, pL v2)] (Nat.le_of_ble_eq_true rfl) rfl ?_
    refine j_lload_n dX0_rounded_5 1 rfl ?_
    refine j_lload_n dX0_rounded_6 2 rfl ?_
    rcases Decidable.em (w64 v2 = 0) with h2 | h2
    · exact onn (it h2 hf)
    · replace hf := ie h2 hf
      refine j_lrem dX0_rounded_7 h2 ?_
      refine j_lstore dX0_rounded_8 [(6, pL (rem64 v0 v2)), (4, pL (div64 v0 v2)), (0, pL v0), (2, pL v2)] (Nat.le_of_ble_eq_true rfl) rfl ?_
      refine j_ldc2 (z := 2) q1584 (by decide) dX0_rounded_10 ?_
      refine j_lload dX0_rounded_13 0 rfl ?_
      refine j_lmul dX0_rounded_15 ?_
      refine j_lload_n dX0_rounded_16 3 rfl ?_
      refine j_lc_gt 43 dX0_rounded_17 dX0_rounded_18 (by decide) (fun h5 => ?_) (fun h5 => ?_)
      · replace hf := it h5 hf
        exact j_sub [1] _ rfl (t0_rounded_b43 (div64 v0 v2) u hf)
      · replace hf := ie h5 hf
        refine j_ldc2 (z := 2) q1584 (by decide) dX0_rounded_21 ?_
        refine j_lload dX0_rounded_24 0 rfl ?_
        refine j_lmul dX0_rounded_26 ?_
        refine j_lload_n dX0_rounded_27 3 rfl ?_
        refine j_lc_ne 47 dX0_rounded_28 dX0_rounded_29 (by decide) (fun h4 => ?_) (fun h4 => ?_)
        · replace hf := ie h4 hf
          exact j_sub [1] _ rfl (t0_rounded_b47 (div64 v0 v2) u hf)
        · replace hf := it h4 hf
          refine j_lload dX0_rounded_32 1 rfl ?_
          refine j_ldc2 (z := 2) q1584 (by decide) dX0_rounded_34 ?_
          refine j_lrem dX0_rounded_37 (by decide) ?_
          refine j_lconst (z := 1) dX0_rounded_38 rfl ?_
          refine j_lc_ne 47 dX0_rounded_39 dX0_rounded_40 (by decide) (fun h3 => ?_) (fun h3 => ?_)
          · replace hf := ie h3 hf
            exact j_sub [1] _ rfl (t0_rounded_b47 (div64 v0 v2) u hf)
          · replace hf := it h3 hf
            exact j_sub [1] _ rfl (t0_rounded_b43 (div64 v0 v2) u hf)
theorem t2_truth_b27 {G : CG} {A : Nat → Prop} {l : Launch} {a : List PV} {r : Int × Sg} {Kf : Int × Int × Sg → Option (Int × Sg)} {v0 : Option Nat} {v1 : Option Nat} (kh : Int → Int → Int → Sg → Option (Int × Int × Sg)) (hkh : ∀ (z2 : Int) (z3 : Int) (z4 : Int) (zu : Sg), ((kh z2 z3 z4 zu).bind Kf = some r) → JW kC (bC G A) A l D2_truth a (jQ (bC G A) A a (some (pI r.1)) r.2 0 0) 0 0 zu 0 0 7 [(0, pR v0), (1, pR v1), (2, pI z2), (3, pI z3), (4, pI z4)] []) (hK0 : ∀ q : Int × Int × Sg, Kf q = some r → JW kC (bC G A) A l D2_truth a (jQ (bC G A) A a (some (pI r.1)) r.2 0 0) 0 0 q.2.2 0 0 100 [(2, pI q.1), (3, pI q.2.1)] []) (v2 : Int) (v3 : Int) (v4 : Int) (u : Sg) (hf : (f2_truth_b27 G kh v0 v1 v2 v3 v4 u).bind Kf = some r) : JW kC (bC G A) A l D2_truth a (jQ (bC G A) A a (some (pI r.1)) r.2 0 0) 0 0 u 0 0 27 [(0, pR v0), (1, pR v1), (2, pI v2), (3, pI v3), (4, pI v4)] [] := by
  unfold f2_truth_b27 at hf
  refine j_aload_n dX2_truth_27 0 rfl ?_
  refine j_iload dX2_truth_28 4 rfl ?_
  refine j_aload_n dX2_truth_30 0 rfl ?_
  obtain ⟨x1, hx1, hf⟩ := obb hf
  refine c_geti (ci := 2) (k := 2) hx1 zcl_2 (Nat.le_of_ble_eq_true rfl) zf_X2_33 fk_82 dX2_truth_31 ?_
  obtain ⟨b2, hb2, hf⟩ := obb hf
  obtain ⟨eb2, tb2⟩ := ztg_s hb2
  obtain ⟨x3, hx3, hf⟩ := obb hf
  refine a_Vr [pI v4, pI x1] [] (t2_isOne (some b2) v4 x1 u hx3) ⟨q1522, q1524, qs42, q133, q1525⟩ dv2_isOne rfl ⟨(Nat.le_of_ble_eq_true rfl), (Nat.le_of_ble_eq_true rfl)⟩ (c_recv zcl_2 tb2) (by rw [← eb2]; rfl) (Nat.le_of_ble_eq_true rfl) dX2_truth_34 ⟨Nat.le_refl 0, Nat.le_refl 0⟩ ?_
  refine j_if_ne (w32 x3) rfl 43 dX2_truth_37 (by decide) (fun h18 => ?_) (fun h18 => ?_)
  · replace hf := ieb h18 hf
    refine j_aload_n dX2_truth_43 0 rfl ?_
    obtain ⟨x4, hx4, hf⟩ := obb hf
    refine c_geta (ci := 2) (k := 0) hx4 zcl_2 (Nat.le_of_ble_eq_true rfl) zf_X2_29 fk_80 dX2_truth_44 ?_
    refine j_iload dX2_truth_47 4 rfl ?_
    refine j_aload_n dX2_truth_49 0 rfl ?_
    obtain ⟨x5, hx5, hf⟩ := obb hf
    refine c_geta (ci := 2) (k := 6) hx5 zcl_2 (Nat.le_of_ble_eq_true rfl) zf_X2_3 fk_86 dX2_truth_50 ?_
    obtain ⟨x6, hx6, hf⟩ := obb hf
    refine c_getaN (ci := 0) (k := 13) hx6 zcl_0 (Nat.le_of_ble_eq_true rfl) zf_X2_107 fk_13 dX2_truth_53 ?_
    obtain ⟨b7, hb7, hf⟩ := obb hf
    obtain ⟨eb7, tb7⟩ := ztg_s hb7
    obtain ⟨u8, hu8, hf⟩ := obb hf
    refine a_Vv [pI v4, pR x6] [] (t6_way (some b7) v4 x6 u hu8) ⟨q1578, q1206, q1207, q145, q1208⟩ dv6_way rfl ⟨(Nat.le_of_ble_eq_true rfl), (Nat.le_of_ble_eq_true rfl)⟩ (c_recv zcl_6 tb7) (by rw [← eb7]; rfl) (Nat.le_of_ble_eq_true rfl) dX2_truth_56 ⟨Nat.le_refl 0, Nat.le_refl 0⟩ ?_
    refine j_aload_n dX2_truth_59 0 rfl ?_
    obtain ⟨x9, hx9, hf⟩ := obb hf
    refine c_geta (ci := 2) (k := 0) hx9 zcl_2 (Nat.le_of_ble_eq_true rfl) zf_X2_29 fk_80 dX2_truth_60 ?_
    refine j_aload_n dX2_truth_63 0 rfl ?_
    obtain ⟨x10, hx10, hf⟩ := obb hf
    refine c_geta (ci := 2) (k := 6) hx10 zcl_2 (Nat.le_of_ble_eq_true rfl) zf_X2_3 fk_86 dX2_truth_64 ?_
    obtain ⟨x11, hx11, hf⟩ := obb hf
    refine c_getaN (ci := 0) (k := 13) hx11 zcl_0 (Nat.le_of_ble_eq_true rfl) zf_X2_107 fk_13 dX2_truth_67 ?_
    obtain ⟨b12, hb12, hf⟩ := obb hf
    obtain ⟨eb12, tb12⟩ := ztg_s hb12
    obtain ⟨u13, hu13, hf⟩ := obb hf
    refine a_Vv [pR x11] [] (t6_mean (some b12) x11 u8 hu13) ⟨q1579, q1210, q1211, q145, q1212⟩ dv6_mean rfl ⟨(Nat.le_of_ble_eq_true rfl), (Nat.le_of_ble_eq_true rfl)⟩ (c_recv zcl_6 tb12) (by rw [← eb12]; rfl) (Nat.le_of_ble_eq_true rfl) dX2_truth_70 ⟨Nat.le_refl 0, Nat.le_refl 0⟩ ?_
    refine j_aload_n dX2_truth_73 1 rfl ?_
    refine j_aload_n dX2_truth_74 0 rfl ?_
    obtain ⟨x14, hx14, hf⟩ := obb hf
    refine c_geta (ci := 2) (k := 6) hx14 zcl_2 (Nat.le_of_ble_eq_true rfl) zf_X2_3 fk_86 dX2_truth_75 ?_
    obtain ⟨x15, hx15, hf⟩ := obb hf
    refine c_getaN (ci := 0) (k := 13) hx15 zcl_0 (Nat.le_of_ble_eq_true rfl) zf_X2_107 fk_13 dX2_truth_78 ?_
    obtain ⟨x16, hx16, hf⟩ := obb hf
    refine (tv_isTrue DD v1 x15 u13 x16 hx16) _ _ _ _ _ _ _ _ _ _ [] _ [pI x16] q1580 (Nat.le_of_ble_eq_true rfl) (Nat.le_of_ble_eq_true rfl) rfl rfl (Nat.le_of_ble_eq_true rfl) dX2_truth_81 ⟨Nat.le_refl 0, Nat.le_refl 0⟩ ?_
    refine j_if_eq (w32 x16) rfl 92 dX2_truth_84 (by decide) (fun h17 => ?_) (fun h17 => ?_)
    · replace hf := itb h17 hf
      refine j_iconst dX2_truth_92 ?_
      refine j_istore_n dX2_truth_93 [(3, pI 1), (0, pR v0), (1, pR v1), (2, pI v2), (4, pI v4)] (Nat.le_of_ble_eq_true rfl) rfl ?_
      refine j_iinc dX2_truth_94 4 rfl [(4, pI (v4 + 1)), (3, pI 1), (0, pR v0), (1, pR v1), (2, pI v2)] (Nat.le_of_ble_eq_true rfl) rfl ?_
      refine j_goto 7 dX2_truth_97 (by decide) ?_
      exact j_sub [2, 3, 4, 1, 0] _ rfl (hkh v2 1 (v4 + 1) u13 hf)
    · replace hf := ieb h17 hf
      refine j_iconst dX2_truth_87 ?_
      refine j_istore_n dX2_truth_88 [(2, pI 1), (0, pR v0), (1, pR v1), (3, pI v3), (4, pI v4)] (Nat.le_of_ble_eq_true rfl) rfl ?_
      refine j_goto 94 dX2_truth_89 (by decide) ?_
      refine j_iinc dX2_truth_94 4 rfl [(4, pI (v4 + 1)), (2, pI 1), (0, pR v0), (1, pR v1), (3, pI v3)] (Nat.le_of_ble_eq_true rfl) rfl ?_
      refine j_goto 7 dX2_truth_97 (by decide) ?_
      exact j_sub [2, 3, 1, 4, 0] _ rfl (hkh 1 v3 (v4 + 1) u13 hf)
  · replace hf := itb h18 hf
    refine j_goto 94 dX2_truth_40 (by decide) ?_
    refine j_iinc dX2_truth_94 4 rfl [(4, pI (v4 + 1)), (0, pR v0), (1, pR v1), (2, pI v2), (3, pI v3)] (Nat.le_of_ble_eq_true rfl) rfl ?_
    refine j_goto 7 dX2_truth_97 (by decide) ?_
    exact j_sub [1, 2, 3, 4, 0] _ rfl (hkh v2 v3 (v4 + 1) u hf)
theorem t2_truth_l7 {G : CG} {A : Nat → Prop} {l : Launch} {a : List PV} {r : Int × Sg} {Kf : Int × Int × Sg → Option (Int × Sg)} (v0 : Option Nat) (v1 : Option Nat) (hK0 : ∀ q : Int × Int × Sg, Kf q = some r → JW kC (bC G A) A l D2_truth a (jQ (bC G A) A a (some (pI r.1)) r.2 0 0) 0 0 q.2.2 0 0 100 [(2, pI q.1), (3, pI q.2.1)] []) : ∀ (n : Nat) (v2 : Int) (v3 : Int) (v4 : Int) (u : Sg), ((f2_truth_l7 G v0 v1 n v2 v3 v4 u).bind Kf = some r) → JW kC (bC G A) A l D2_truth a (jQ (bC G A) A a (some (pI r.1)) r.2 0 0) 0 0 u 0 0 7 [(0, pR v0), (1, pR v1), (2, pI v2), (3, pI v3), (4, pI v4)] [] := by
  intro n
  induction n with
  | zero => intro v2 v3 v4 u hf; exact onb hf
  | succ n ih =>
    intro v2 v3 v4 u hf
    unfold f2_truth_l7 at hf
    refine j_iload dX2_truth_7 4 rfl ?_
    refine j_aload_n dX2_truth_9 0 rfl ?_
    obtain ⟨x1, hx1, hf⟩ := obb hf
    refine c_geta (ci := 2) (k := 0) hx1 zcl_2 (Nat.le_of_ble_eq_true rfl) zf_X2_29 fk_80 dX2_truth_10 ?_
    obtain ⟨x2, hx2, hf⟩ := obb hf
    refine c_getiN (ci := 6) (k := 11) hx2 zcl_6 (Nat.le_of_ble_eq_true rfl) zf_X2_73 fk_251 dX2_truth_13 ?_
    refine j_icmp_ge (w32 v4) (w32 x2) rfl rfl 100 dX2_truth_16 (by decide) (fun h5 => ?_) (fun h5 => ?_)
    · replace hf := itb h5 hf
      exact j_sub [2, 3] _ rfl (hK0 (v2, v3, u) hf)
    · replace hf := ieb h5 hf
      refine j_iload_n dX2_truth_19 2 rfl ?_
      refine j_if_eq (w32 v2) rfl 27 dX2_truth_20 (by decide) (fun h4 => ?_) (fun h4 => ?_)
      · replace hf := itb h4 hf
        exact j_sub [0, 1, 2, 3, 4] _ rfl (t2_truth_b27 (f2_truth_l7 G v0 v1 n) ih hK0 v2 v3 v4 u hf)
      · replace hf := ieb h4 hf
        refine j_iload_n dX2_truth_23 3 rfl ?_
        refine j_if_ne (w32 v3) rfl 100 dX2_truth_24 (by decide) (fun h3 => ?_) (fun h3 => ?_)
        · replace hf := ieb h3 hf
          exact j_sub [2, 3] _ rfl (hK0 (v2, v3, u) hf)
        · replace hf := itb h3 hf
          exact j_sub [0, 1, 2, 3, 4] _ rfl (t2_truth_b27 (f2_truth_l7 G v0 v1 n) ih hK0 v2 v3 v4 u hf)
theorem t2_truth_b112 {G : CG} {A : Nat → Prop} {l : Launch} {a : List PV} {r : Int × Sg} (v2 : Int) (u : Sg) (hf : f2_truth_b112 G v2 u = some r) : JW kC (bC G A) A l D2_truth a (jQ (bC G A) A a (some (pI r.1)) r.2 0 0) 0 0 u 0 0 112 [(2, pI v2)] [] := by
  unfold f2_truth_b112 at hf
  refine j_iload_n dX2_truth_112 0 rfl ?_
  refine j_if_eq (w32 v2) rfl 120 dX2_truth_113 (by decide) (fun h1 => ?_) (fun h1 => ?_)
  · replace hf := it h1 hf
    refine j_iconst dX2_truth_120 ?_
    replace hf := Option.some.inj hf
    subst hf
    exact j_ireturn (bC_mv G A) ⟨Nat.le_refl 0, Nat.le_refl 0⟩ rfl dX2_truth_121
  · replace hf := ie h1 hf
    refine j_iconst dX2_truth_116 ?_
    refine j_goto 121 dX2_truth_117 (by decide) ?_
    replace hf := Option.some.inj hf
    subst hf
    exact j_ireturn (bC_mv G A) ⟨Nat.le_refl 0, Nat.le_refl 0⟩ rfl dX2_truth_121
theorem t2_truth_b100 {G : CG} {A : Nat → Prop} {l : Launch} {a : List PV} {r : Int × Sg} (v2 : Int) (v3 : Int) (u : Sg) (hf : f2_truth_b100 G v2 v3 u = some r) : JW kC (bC G A) A l D2_truth a (jQ (bC G A) A a (some (pI r.1)) r.2 0 0) 0 0 u 0 0 100 [(2, pI v2), (3, pI v3)] [] := by
  unfold f2_truth_b100 at hf
  refine j_iload_n dX2_truth_100 0 rfl ?_
  refine j_if_eq (w32 v2) rfl 112 dX2_truth_101 (by decide) (fun h2 => ?_) (fun h2 => ?_)
  · replace hf := it h2 hf
    exact j_sub [0] _ rfl (t2_truth_b112 v2 u hf)
  · replace hf := ie h2 hf
    refine j_iload_n dX2_truth_104 1 rfl ?_
    refine j_if_eq (w32 v3) rfl 112 dX2_truth_105 (by decide) (fun h1 => ?_) (fun h1 => ?_)
    · replace hf := it h1 hf
      exact j_sub [0] _ rfl (t2_truth_b112 v2 u hf)
    · replace hf := ie h1 hf
      refine j_iconst dX2_truth_108 ?_
      refine j_goto 121 dX2_truth_109 (by decide) ?_
      replace hf := Option.some.inj hf
      subst hf
      exact j_ireturn (bC_mv G A) ⟨Nat.le_refl 0, Nat.le_refl 0⟩ rfl dX2_truth_121
theorem t2_truth {G : CG} {A : Nat → Prop} {l : Launch} {r : Int × Sg} (v0 : Option Nat) (v1 : Option Nat) (u : Sg) (hf : f2_truth G v0 v1 u = some r) : JM kC (bC G A) A l yX2_truth D2_truth [pR v0, pR v1] u (some (pI r.1)) r.2 0 0 := by
  refine j_met (lv0 := [(0, pR v0), (1, pR v1)]) ⟨pl_X2, rfl, rfl, (Nat.le_of_ble_eq_true rfl), rfl⟩ ?_
  unfold f2_truth at hf
  refine j_iconst dX2_truth_0 ?_
  refine j_istore_n dX2_truth_1 [(2, pI 0), (0, pR v0), (1, pR v1)] (Nat.le_of_ble_eq_true rfl) rfl ?_
  refine j_iconst dX2_truth_2 ?_
  refine j_istore_n dX2_truth_3 [(3, pI 0), (2, pI 0), (0, pR v0), (1, pR v1)] (Nat.le_of_ble_eq_true rfl) rfl ?_
  refine j_iconst dX2_truth_4 ?_
  refine j_istore dX2_truth_5 [(4, pI 0), (3, pI 0), (2, pI 0), (0, pR v0), (1, pR v1)] (Nat.le_of_ble_eq_true rfl) rfl ?_
  refine j_sub [3, 4, 2, 1, 0] _ rfl (t2_truth_l7 v0 v1 ?_ NN 0 0 0 u hf)
  · intro q1 hf
    exact j_sub [0, 1] _ rfl (t2_truth_b100 q1.1 q1.2.1 q1.2.2 hf)
theorem t0_price_b210 {G : CG} {A : Nat → Prop} {l : Launch} {a : List PV} {r : Int × Sg} {Kf : (Int × Sg) ⊕ (Sg) ⊕ (Int × Int × Sg) → Option (Int × Sg)} {v0 : Option Nat} {v4 : Option Nat} (kh : Int → Int → Int → Sg → Option ((Int × Sg) ⊕ (Sg) ⊕ (Int × Int × Sg))) (hkh : ∀ (z5 : Int) (z7 : Int) (z9 : Int) (zu : Sg), ((kh z5 z7 z9 zu).bind Kf = some r) → JW kC (bC G A) A l D0_price a (jQ (bC G A) A a (some (pI r.1)) r.2 0 0) 0 0 zu 0 0 34 [(0, pR v0), (4, pR v4), (5, pL z5), (7, pL z7), (9, pI z9)] []) (hK0 : ∀ q : Int × Sg, Kf (.inl q) = some r → JW kC (bC G A) A l D0_price a (jQ (bC G A) A a (some (pI r.1)) r.2 0 0) 0 0 q.2 0 0 92 [(9, pI q.1)] []) (hK1 : ∀ q : Sg, Kf (.inr (.inl q)) = some r → JW kC (bC G A) A l D0_price a (jQ (bC G A) A a (some (pI r.1)) r.2 0 0) 0 0 q 0 0 142 [] []) (hK2 : ∀ q : Int × Int × Sg, Kf (.inr (.inr q)) = some r → JW kC (bC G A) A l D0_price a (jQ (bC G A) A a (some (pI r.1)) r.2 0 0) 0 0 q.2.2 0 0 245 [(5, pL q.1), (7, pL q.2.1)] []) (v5 : Int) (v7 : Int) (v9 : Int) (v10 : Option Nat) (v11 : Int) (u : Sg) (hf : (f0_price_b210 G kh v0 v4 v5 v7 v9 v10 v11 u).bind Kf = some r) : JW kC (bC G A) A l D0_price a (jQ (bC G A) A a (some (pI r.1)) r.2 0 0) 0 0 u 0 0 210 [(0, pR v0), (4, pR v4), (5, pL v5), (7, pL v7), (9, pI v9), (10, pR v10), (11, pI v11)] [] := by
  unfold f0_price_b210 at hf
  refine j_aload dX0_price_210 5 rfl ?_
  obtain ⟨x1, hx1, hf⟩ := obb hf
  refine c_getiN (ci := 17) (k := 0) hx1 zcl_17 (Nat.le_of_ble_eq_true rfl) zf_X0_400 fk_680 dX0_price_212 ?_
  refine j_iconst dX0_price_215 ?_
  refine j_icmp_eq (w32 x1) 1 rfl rfl 239 dX0_price_216 (by decide) (fun h4 => ?_) (fun h4 => ?_)
  · replace hf := itb h4 hf
    refine j_iinc dX0_price_239 4 rfl [(9, pI (v9 + 1)), (0, pR v0), (4, pR v4), (5, pL v5), (7, pL v7), (10, pR v10), (11, pI v11)] (Nat.le_of_ble_eq_true rfl) rfl ?_
    refine j_goto 34 dX0_price_242 (by decide) ?_
    exact j_sub [1, 2, 3, 4, 0] _ rfl (hkh v5 v7 (v9 + 1) u hf)
  · replace hf := ieb h4 hf
    refine j_iload dX0_price_219 6 rfl ?_
    refine j_iconst dX0_price_221 ?_
    refine j_icmp_ne (w32 v11) 1 rfl rfl 239 dX0_price_222 (by decide) (fun h3 => ?_) (fun h3 => ?_)
    · replace hf := ieb h3 hf
      refine j_iinc dX0_price_239 4 rfl [(9, pI (v9 + 1)), (0, pR v0), (4, pR v4), (5, pL v5), (7, pL v7), (10, pR v10), (11, pI v11)] (Nat.le_of_ble_eq_true rfl) rfl ?_
      refine j_goto 34 dX0_price_242 (by decide) ?_
      exact j_sub [1, 2, 3, 4, 0] _ rfl (hkh v5 v7 (v9 + 1) u hf)
    · replace hf := itb h3 hf
      refine j_lload dX0_price_225 2 rfl ?_
      refine j_aload dX0_price_227 5 rfl ?_
      obtain ⟨x2, hx2, hf⟩ := obb hf
      refine c_getiN (ci := 17) (k := 1) hx2 zcl_17 (Nat.le_of_ble_eq_true rfl) zf_X0_401 fk_681 dX0_price_229 ?_
      refine j_i2l dX0_price_232 ?_
      refine j_lload dX0_price_233 3 rfl ?_
      refine j_lmul dX0_price_235 ?_
      refine j_ladd dX0_price_236 ?_
      refine j_lstore dX0_price_237 [(5, pL (v5 + ((w32 x2) * v7))), (0, pR v0), (4, pR v4), (7, pL v7), (9, pI v9), (10, pR v10), (11, pI v11)] (Nat.le_of_ble_eq_true rfl) rfl ?_
      refine j_iinc dX0_price_239 4 rfl [(9, pI (v9 + 1)), (5, pL (v5 + ((w32 x2) * v7))), (0, pR v0), (4, pR v4), (7, pL v7), (10, pR v10), (11, pI v11)] (Nat.le_of_ble_eq_true rfl) rfl ?_
      refine j_goto 34 dX0_price_242 (by decide) ?_
      exact j_sub [2, 3, 1, 4, 0] _ rfl (hkh (v5 + ((w32 x2) * v7)) v7 (v9 + 1) u hf)
theorem t0_price_b84 {G : CG} {A : Nat → Prop} {l : Launch} {a : List PV} {r : Int × Sg} {Kf : (Int × Sg) ⊕ (Sg) ⊕ (Int × Int × Sg) → Option (Int × Sg)} {v0 : Option Nat} {v4 : Option Nat} (kh : Int → Int → Int → Sg → Option ((Int × Sg) ⊕ (Sg) ⊕ (Int × Int × Sg))) (hkh : ∀ (z5 : Int) (z7 : Int) (z9 : Int) (zu : Sg), ((kh z5 z7 z9 zu).bind Kf = some r) → JW kC (bC G A) A l D0_price a (jQ (bC G A) A a (some (pI r.1)) r.2 0 0) 0 0 zu 0 0 34 [(0, pR v0), (4, pR v4), (5, pL z5), (7, pL z7), (9, pI z9)] []) (hK0 : ∀ q : Int × Sg, Kf (.inl q) = some r → JW kC (bC G A) A l D0_price a (jQ (bC G A) A a (some (pI r.1)) r.2 0 0) 0 0 q.2 0 0 92 [(9, pI q.1)] []) (hK1 : ∀ q : Sg, Kf (.inr (.inl q)) = some r → JW kC (bC G A) A l D0_price a (jQ (bC G A) A a (some (pI r.1)) r.2 0 0) 0 0 q 0 0 142 [] []) (hK2 : ∀ q : Int × Int × Sg, Kf (.inr (.inr q)) = some r → JW kC (bC G A) A l D0_price a (jQ (bC G A) A a (some (pI r.1)) r.2 0 0) 0 0 q.2.2 0 0 245 [(5, pL q.1), (7, pL q.2.1)] []) (v5 : Int) (v7 : Int) (v9 : Int) (v10 : Option Nat) (s0 : Int) (u : Sg) (hf : (f0_price_b84 G kh v0 v4 v5 v7 v9 v10 s0 u).bind Kf = some r) : JW kC (bC G A) A l D0_price a (jQ (bC G A) A a (some (pI r.1)) r.2 0 0) 0 0 u 0 0 84 [(0, pR v0), (4, pR v4), (5, pL v5), (7, pL v7), (9, pI v9), (10, pR v10)] [pI s0] := by
  unfold f0_price_b84 at hf
  refine j_istore dX0_price_84 [(11, pI s0), (0, pR v0), (4, pR v4), (5, pL v5), (7, pL v7), (9, pI v9), (10, pR v10)] (Nat.le_of_ble_eq_true rfl) rfl ?_
  refine j_iload dX0_price_86 0 rfl ?_
  refine j_iconst dX0_price_88 ?_
  refine j_icmp_ne (w32 s0) 2 rfl rfl 98 dX0_price_89 (by decide) (fun h14 => ?_) (fun h14 => ?_)
  · replace hf := ieb h14 hf
    refine j_aload dX0_price_98 6 rfl ?_
    obtain ⟨x1, hx1, hf⟩ := obb hf
    refine c_getiN (ci := 17) (k := 0) hx1 zcl_17 (Nat.le_of_ble_eq_true rfl) zf_X0_400 fk_680 dX0_price_100 ?_
    refine j_iconst dX0_price_103 ?_
    refine j_icmp_ne (w32 x1) 3 rfl rfl 145 dX0_price_104 (by decide) (fun h13 => ?_) (fun h13 => ?_)
    · replace hf := ieb h13 hf
      refine j_aload dX0_price_145 6 rfl ?_
      obtain ⟨x2, hx2, hf⟩ := obb hf
      refine c_getiN (ci := 17) (k := 0) hx2 zcl_17 (Nat.le_of_ble_eq_true rfl) zf_X0_400 fk_680 dX0_price_147 ?_
      refine j_iconst dX0_price_150 ?_
      refine j_icmp_ne (w32 x2) 4 rfl rfl 173 dX0_price_151 (by decide) (fun h8 => ?_) (fun h8 => ?_)
      · replace hf := ieb h8 hf
        refine j_aload dX0_price_173 6 rfl ?_
        obtain ⟨x3, hx3, hf⟩ := obb hf
        refine c_getiN (ci := 17) (k := 0) hx3 zcl_17 (Nat.le_of_ble_eq_true rfl) zf_X0_400 fk_680 dX0_price_175 ?_
        refine j_iconst dX0_price_178 ?_
        refine j_icmp_ne (w32 x3) 1 rfl rfl 210 dX0_price_179 (by decide) (fun h6 => ?_) (fun h6 => ?_)
        · replace hf := ieb h6 hf
          exact j_sub [1, 2, 3, 4, 5, 6, 0] _ rfl (t0_price_b210 (kh) hkh hK0 hK1 hK2 v5 v7 v9 v10 s0 u hf)
        · replace hf := itb h6 hf
          refine j_iload dX0_price_182 0 rfl ?_
          refine j_iconst dX0_price_184 ?_
          refine j_icmp_ne (w32 s0) 1 rfl rfl 210 dX0_price_185 (by decide) (fun h5 => ?_) (fun h5 => ?_)
          · replace hf := ieb h5 hf
            exact j_sub [1, 2, 3, 4, 5, 6, 0] _ rfl (t0_price_b210 (kh) hkh hK0 hK1 hK2 v5 v7 v9 v10 s0 u hf)
          · replace hf := itb h5 hf
            refine j_lload dX0_price_188 3 rfl ?_
            refine j_aload dX0_price_190 6 rfl ?_
            obtain ⟨x4, hx4, hf⟩ := obb hf
            refine c_getiN (ci := 17) (k := 1) hx4 zcl_17 (Nat.le_of_ble_eq_true rfl) zf_X0_401 fk_681 dX0_price_192 ?_
            refine j_i2l dX0_price_195 ?_
            refine j_lmul dX0_price_196 ?_
            refine j_lstore dX0_price_197 [(5, pL (v5 * (w32 x4))), (11, pI s0), (0, pR v0), (4, pR v4), (7, pL v7), (9, pI v9), (10, pR v10)] (Nat.le_of_ble_eq_true rfl) rfl ?_
            refine j_lload dX0_price_199 4 rfl ?_
            refine j_ldc2 (z := 1000) q1589 (by decide) dX0_price_201 ?_
            refine j_lmul dX0_price_204 ?_
            refine j_lstore dX0_price_205 [(7, pL (v7 * 1000)), (5, pL (v5 * (w32 x4))), (11, pI s0), (0, pR v0), (4, pR v4), (9, pI v9), (10, pR v10)] (Nat.le_of_ble_eq_true rfl) rfl ?_
            refine j_goto 239 dX0_price_207 (by decide) ?_
            refine j_iinc dX0_price_239 5 rfl [(9, pI (v9 + 1)), (7, pL (v7 * 1000)), (5, pL (v5 * (w32 x4))), (11, pI s0), (0, pR v0), (4, pR v4), (10, pR v10)] (Nat.le_of_ble_eq_true rfl) rfl ?_
            refine j_goto 34 dX0_price_242 (by decide) ?_
            exact j_sub [4, 5, 2, 1, 0] _ rfl (hkh (v5 * (w32 x4)) (v7 * 1000) (v9 + 1) u hf)
      · replace hf := itb h8 hf
        refine j_lload dX0_price_154 3 rfl ?_
        refine j_aload dX0_price_156 6 rfl ?_
        obtain ⟨x7, hx7, hf⟩ := obb hf
        refine c_getiN (ci := 17) (k := 1) hx7 zcl_17 (Nat.le_of_ble_eq_true rfl) zf_X0_401 fk_681 dX0_price_158 ?_
        refine j_i2l dX0_price_161 ?_
        refine j_lload dX0_price_162 4 rfl ?_
        refine j_lmul dX0_price_164 ?_
        refine j_mmax_long q1586 q1587 q137 q1588 (Nat.le_of_ble_eq_true rfl) (Nat.le_of_ble_eq_true rfl) (Nat.le_of_ble_eq_true rfl) ⟨Nat.le_refl 0, Nat.le_refl 0⟩ dX0_price_165 ?_
        refine j_lstore dX0_price_168 [(5, pL (mx64 v5 ((w32 x7) * v7))), (11, pI s0), (0, pR v0), (4, pR v4), (7, pL v7), (9, pI v9), (10, pR v10)] (Nat.le_of_ble_eq_true rfl) rfl ?_
        refine j_goto 239 dX0_price_170 (by decide) ?_
        refine j_iinc dX0_price_239 5 rfl [(9, pI (v9 + 1)), (5, pL (mx64 v5 ((w32 x7) * v7))), (11, pI s0), (0, pR v0), (4, pR v4), (7, pL v7), (10, pR v10)] (Nat.le_of_ble_eq_true rfl) rfl ?_
        refine j_goto 34 dX0_price_242 (by decide) ?_
        exact j_sub [3, 4, 1, 5, 0] _ rfl (hkh (mx64 v5 ((w32 x7) * v7)) v7 (v9 + 1) u hf)
    · replace hf := itb h13 hf
      refine j_lload dX0_price_107 3 rfl ?_
      refine j_aload dX0_price_109 6 rfl ?_
      obtain ⟨x9, hx9, hf⟩ := obb hf
      refine c_getiN (ci := 17) (k := 1) hx9 zcl_17 (Nat.le_of_ble_eq_true rfl) zf_X0_401 fk_681 dX0_price_111 ?_
      refine j_i2l dX0_price_114 ?_
      refine j_lload dX0_price_115 4 rfl ?_
      refine j_lmul dX0_price_117 ?_
      obtain ⟨x10, hx10, hf⟩ := obb hf
      refine a_Sr [pL v5, pL ((w32 x9) * v7)] [] (t0_rounded v5 ((w32 x9) * v7) u hx10) ⟨q1581, q1582, q128, q1583⟩ dv0_rounded rfl ⟨(Nat.le_of_ble_eq_true rfl), (Nat.le_of_ble_eq_true rfl)⟩ rfl (Nat.le_of_ble_eq_true rfl) dX0_price_118 ⟨Nat.le_refl 0, Nat.le_refl 0⟩ ?_
      refine j_aload dX0_price_121 6 rfl ?_
      obtain ⟨x11, hx11, hf⟩ := obb hf
      refine c_getiN (ci := 17) (k := 1) hx11 zcl_17 (Nat.le_of_ble_eq_true rfl) zf_X0_401 fk_681 dX0_price_123 ?_
      refine j_i2l dX0_price_126 ?_
      refine j_lmul dX0_price_127 ?_
      refine j_lstore dX0_price_128 [(5, pL (x10 * (w32 x11))), (11, pI s0), (0, pR v0), (4, pR v4), (7, pL v7), (9, pI v9), (10, pR v10)] (Nat.le_of_ble_eq_true rfl) rfl ?_
      refine j_lconst (z := 1) dX0_price_130 rfl ?_
      refine j_lstore dX0_price_131 [(7, pL 1), (5, pL (x10 * (w32 x11))), (11, pI s0), (0, pR v0), (4, pR v4), (9, pI v9), (10, pR v10)] (Nat.le_of_ble_eq_true rfl) rfl ?_
      refine j_lload dX0_price_133 1 rfl ?_
      refine j_ldc2 (z := 99999999) q1585 (by decide) dX0_price_135 ?_
      refine j_lc_le 239 dX0_price_138 dX0_price_139 (by decide) (fun h12 => ?_) (fun h12 => ?_)
      · replace hf := itb h12 hf
        refine j_iinc dX0_price_239 5 rfl [(9, pI (v9 + 1)), (7, pL 1), (5, pL (x10 * (w32 x11))), (11, pI s0), (0, pR v0), (4, pR v4), (10, pR v10)] (Nat.le_of_ble_eq_true rfl) rfl ?_
        refine j_goto 34 dX0_price_242 (by decide) ?_
        exact j_sub [4, 5, 2, 1, 0] _ rfl (hkh (x10 * (w32 x11)) 1 (v9 + 1) u hf)
      · replace hf := ieb h12 hf
        exact j_sub [] _ rfl (hK1 u hf)
  · replace hf := itb h14 hf
    exact j_sub [5] _ rfl (hK0 (v9, u) hf)
theorem t0_price_l34 {G : CG} {A : Nat → Prop} {l : Launch} {a : List PV} {r : Int × Sg} {Kf : (Int × Sg) ⊕ (Sg) ⊕ (Int × Int × Sg) → Option (Int × Sg)} (v0 : Option Nat) (v4 : Option Nat) (hK0 : ∀ q : Int × Sg, Kf (.inl q) = some r → JW kC (bC G A) A l D0_price a (jQ (bC G A) A a (some (pI r.1)) r.2 0 0) 0 0 q.2 0 0 92 [(9, pI q.1)] []) (hK1 : ∀ q : Sg, Kf (.inr (.inl q)) = some r → JW kC (bC G A) A l D0_price a (jQ (bC G A) A a (some (pI r.1)) r.2 0 0) 0 0 q 0 0 142 [] []) (hK2 : ∀ q : Int × Int × Sg, Kf (.inr (.inr q)) = some r → JW kC (bC G A) A l D0_price a (jQ (bC G A) A a (some (pI r.1)) r.2 0 0) 0 0 q.2.2 0 0 245 [(5, pL q.1), (7, pL q.2.1)] []) : ∀ (n : Nat) (v5 : Int) (v7 : Int) (v9 : Int) (u : Sg), ((f0_price_l34 G v0 v4 n v5 v7 v9 u).bind Kf = some r) → JW kC (bC G A) A l D0_price a (jQ (bC G A) A a (some (pI r.1)) r.2 0 0) 0 0 u 0 0 34 [(0, pR v0), (4, pR v4), (5, pL v5), (7, pL v7), (9, pI v9)] [] := by
  intro n
  induction n with
  | zero => intro v5 v7 v9 u hf; exact onb hf
  | succ n ih =>
    intro v5 v7 v9 u hf
    unfold f0_price_l34 at hf
    refine j_iload dX0_price_34 4 rfl ?_
    refine j_aload dX0_price_36 1 rfl ?_
    obtain ⟨b1, hb1, hf⟩ := obb hf
    obtain ⟨eb1, tb1⟩ := ztg_s hb1
    obtain ⟨x2, hx2, hf⟩ := obb hf
    refine a_Fr (x := ix_0) [] [pI v9] (tJ2_size (some b1) u hx2) ⟨q556, q559, q561, q131, q563⟩ iF_0 df_0 rfl ⟨(Nat.le_of_ble_eq_true rfl), (Nat.le_of_ble_eq_true rfl)⟩ zcl_5 rfl tb1 (by rw [← eb1]; rfl) (Nat.le_of_ble_eq_true rfl) dX0_price_38 ⟨Nat.le_refl 0, Nat.le_refl 0⟩ ?_
    refine j_icmp_ge (w32 v9) (w32 x2) rfl rfl 245 dX0_price_43 (by decide) (fun h12 => ?_) (fun h12 => ?_)
    · replace hf := itb h12 hf
      exact j_sub [2, 3] _ rfl (hK2 (v5, v7, u) hf)
    · replace hf := ieb h12 hf
      refine j_aload dX0_price_46 1 rfl ?_
      refine j_iload dX0_price_48 4 rfl ?_
      obtain ⟨b3, hb3, hf⟩ := obb hf
      obtain ⟨eb3, tb3⟩ := ztg_s hb3
      obtain ⟨x4, hx4, hf⟩ := obb hf
      refine a_Fr (x := ix_1) [pI v9] [] (tJ2_get (some b3) v9 u hx4) ⟨q1273, q813, q815, q131, q817⟩ iF_1 df_1 rfl ⟨(Nat.le_of_ble_eq_true rfl), (Nat.le_of_ble_eq_true rfl)⟩ zcl_5 rfl tb3 (by rw [← eb3]; rfl) (Nat.le_of_ble_eq_true rfl) dX0_price_50 ⟨Nat.le_refl 0, Nat.le_refl 0⟩ ?_
      obtain ⟨y5, hy5, hf⟩ := obb hf
      refine c_cast hy5 zok_PriceRow q1573 dX0_price_55 ?_
      refine j_astore dX0_price_58 [(10, pR x4), (0, pR v0), (4, pR v4), (5, pL v5), (7, pL v7), (9, pI v9)] (Nat.le_of_ble_eq_true rfl) rfl ?_
      refine j_aload dX0_price_60 0 rfl ?_
      obtain ⟨x6, hx6, hf⟩ := obb hf
      refine c_getaN (ci := 17) (k := 2) hx6 zcl_17 (Nat.le_of_ble_eq_true rfl) zf_X0_393 fk_682 dX0_price_62 ?_
      refine j_ifnonnull 72 dX0_price_65 (by decide) (fun h11 => ?_) (fun h11 => ?_)
      · replace hf := ieb h11 hf
        refine j_aload_n dX0_price_72 1 rfl ?_
        obtain ⟨x7, hx7, hf⟩ := obb hf
        refine c_geta (ci := 0) (k := 14) hx7 zcl_0 (Nat.le_of_ble_eq_true rfl) zf_X0_117 fk_14 dX0_price_73 ?_
        refine j_aload dX0_price_76 0 rfl ?_
        obtain ⟨x8, hx8, hf⟩ := obb hf
        refine c_getaN (ci := 17) (k := 2) hx8 zcl_17 (Nat.le_of_ble_eq_true rfl) zf_X0_393 fk_682 dX0_price_78 ?_
        obtain ⟨b9, hb9, hf⟩ := obb hf
        obtain ⟨eb9, tb9⟩ := ztg_s hb9
        obtain ⟨q10, hq10, hf⟩ := obb hf
        refine a_Vr [pR x8] [] (t2_truth (some b9) x8 u hq10) ⟨q1574, q1575, q1576, q133, q1577⟩ dv2_truth rfl ⟨(Nat.le_of_ble_eq_true rfl), (Nat.le_of_ble_eq_true rfl)⟩ (c_recv zcl_2 tb9) (by rw [← eb9]; rfl) (Nat.le_of_ble_eq_true rfl) dX0_price_81 ⟨Nat.le_refl 0, Nat.le_refl 0⟩ ?_
        exact j_sub [1, 2, 3, 4, 5, 0] _ rfl (t0_price_b84 (f0_price_l34 G v0 v4 n) ih hK0 hK1 hK2 v5 v7 v9 x4 q10.1 q10.2 hf)
      · replace hf := itb h11 hf
        refine j_iconst dX0_price_68 ?_
        refine j_goto 84 dX0_price_69 (by decide) ?_
        exact j_sub [1, 2, 3, 4, 5, 0] _ rfl (t0_price_b84 (f0_price_l34 G v0 v4 n) ih hK0 hK1 hK2 v5 v7 v9 x4 1 u hf)
theorem t0_price {G : CG} {A : Nat → Prop} {l : Launch} {r : Int × Sg} (v0 : Option Nat) (v1 : Int) (v2 : Int) (u : Sg) (hf : f0_price G v0 v1 v2 u = some r) : JM kC (bC G A) A l yX0_price D0_price [pR v0, pI v1, pI v2] u (some (pI r.1)) r.2 0 0 := by
  refine j_met (lv0 := [(0, pR v0), (1, pI v1), (2, pI v2)]) ⟨pl_X0, rfl, rfl, (Nat.le_of_ble_eq_true rfl), rfl⟩ ?_
  unfold f0_price at hf
  refine j_aload_n dX0_price_0 0 rfl ?_
  refine j_iload_n dX0_price_1 1 rfl ?_
  refine j_iload_n dX0_price_2 2 rfl ?_
  obtain ⟨b1, hb1, hf⟩ := ob hf
  obtain ⟨eb1, tb1⟩ := ztg_s hb1
  obtain ⟨q2, hq2, hf⟩ := ob hf
  refine a_Vr [pI v1, pI v2] [] (t0_look (some b1) v1 v2 u hq2) ⟨q1498, q1500, qs41, q128, q1501⟩ dv0_look rfl ⟨(Nat.le_of_ble_eq_true rfl), (Nat.le_of_ble_eq_true rfl)⟩ (c_recv zcl_0 tb1) (by rw [← eb1]; rfl) (Nat.le_of_ble_eq_true rfl) dX0_price_3 ⟨Nat.le_refl 0, Nat.le_refl 0⟩ ?_
  refine j_istore_n dX0_price_6 [(3, pI q2.1), (0, pR v0), (1, pI v1), (2, pI v2)] (Nat.le_of_ble_eq_true rfl) rfl ?_
  refine j_iload_n dX0_price_7 0 rfl ?_
  refine j_if_ge (w32 q2.1) rfl 13 dX0_price_8 (by decide) (fun h11 => ?_) (fun h11 => ?_)
  · replace hf := it h11 hf
    refine j_aload_n dX0_price_13 1 rfl ?_
    obtain ⟨x3, hx3, hf⟩ := ob hf
    refine c_geta (ci := 0) (k := 14) hx3 zcl_0 (Nat.le_of_ble_eq_true rfl) zf_X0_117 fk_14 dX0_price_14 ?_
    obtain ⟨x4, hx4, hf⟩ := ob hf
    refine c_getaN (ci := 2) (k := 0) hx4 zcl_2 (Nat.le_of_ble_eq_true rfl) zf_X0_373 fk_80 dX0_price_17 ?_
    obtain ⟨x5, hx5, hf⟩ := ob hf
    refine c_getaN (ci := 6) (k := 4) hx5 zcl_6 (Nat.le_of_ble_eq_true rfl) zf_X0_246 fk_244 dX0_price_20 ?_
    refine j_astore dX0_price_23 [(4, pR x5), (3, pI q2.1), (0, pR v0), (1, pI v1), (2, pI v2)] (Nat.le_of_ble_eq_true rfl) rfl ?_
    refine j_lconst (z := 0) dX0_price_25 rfl ?_
    refine j_lstore dX0_price_26 [(5, pL 0), (4, pR x5), (3, pI q2.1), (0, pR v0), (1, pI v1), (2, pI v2)] (Nat.le_of_ble_eq_true rfl) rfl ?_
    refine j_lconst (z := 1) dX0_price_28 rfl ?_
    refine j_lstore dX0_price_29 [(7, pL 1), (5, pL 0), (4, pR x5), (3, pI q2.1), (0, pR v0), (1, pI v1), (2, pI v2)] (Nat.le_of_ble_eq_true rfl) rfl ?_
    refine j_iconst dX0_price_31 ?_
    refine j_istore dX0_price_32 [(9, pI 0), (7, pL 1), (5, pL 0), (4, pR x5), (3, pI q2.1), (0, pR v0), (1, pI v1), (2, pI v2)] (Nat.le_of_ble_eq_true rfl) rfl ?_
    refine j_sub [5, 3, 2, 1, 0] _ rfl (t0_price_l34 v0 x5 ?_ ?_ ?_ NN 0 1 0 q2.2 hf)
    · intro q6 hf
      simp only [Sum.elim_inl, Sum.elim_inr] at hf
      refine j_bipush dX0_price_92 (by decide) ?_
      refine j_iload dX0_price_94 0 rfl ?_
      refine j_isub dX0_price_96 ?_
      replace hf := Option.some.inj hf
      subst hf
      exact j_ireturn (bC_mv G A) ⟨Nat.le_refl 0, Nat.le_refl 0⟩ rfl dX0_price_97
    · intro q7 hf
      simp only [Sum.elim_inl, Sum.elim_inr] at hf
      refine j_bipush dX0_price_142 (by decide) ?_
      replace hf := Option.some.inj hf
      subst hf
      exact j_ireturn (bC_mv G A) ⟨Nat.le_refl 0, Nat.le_refl 0⟩ rfl dX0_price_144
    · intro q8 hf
      simp only [Sum.elim_inl, Sum.elim_inr] at hf
      refine j_lload dX0_price_245 0 rfl ?_
      refine j_lload dX0_price_247 1 rfl ?_
      obtain ⟨x9, hx9, hf⟩ := ob hf
      refine a_Sr [pL q8.1, pL q8.2.1] [] (t0_rounded q8.1 q8.2.1 q8.2.2 hx9) ⟨q1581, q1582, q128, q1583⟩ dv0_rounded rfl ⟨(Nat.le_of_ble_eq_true rfl), (Nat.le_of_ble_eq_true rfl)⟩ rfl (Nat.le_of_ble_eq_true rfl) dX0_price_249 ⟨Nat.le_refl 0, Nat.le_refl 0⟩ ?_
      refine j_lstore dX0_price_252 [(5, pL x9), (7, pL q8.2.1)] (Nat.le_of_ble_eq_true rfl) rfl ?_
      refine j_lload dX0_price_254 0 rfl ?_
      refine j_ldc2 (z := 99999999) q1585 (by decide) dX0_price_256 ?_
      refine j_lc_le 268 dX0_price_259 dX0_price_260 (by decide) (fun h10 => ?_) (fun h10 => ?_)
      · replace hf := it h10 hf
        refine j_lload dX0_price_268 0 rfl ?_
        refine j_l2i dX0_price_270 ?_
        replace hf := Option.some.inj hf
        subst hf
        exact j_ireturn (bC_mv G A) ⟨Nat.le_refl 0, Nat.le_refl 0⟩ rfl dX0_price_271
      · replace hf := ie h10 hf
        refine j_bipush dX0_price_263 (by decide) ?_
        refine j_goto 271 dX0_price_265 (by decide) ?_
        replace hf := Option.some.inj hf
        subst hf
        exact j_ireturn (bC_mv G A) ⟨Nat.le_refl 0, Nat.le_refl 0⟩ rfl dX0_price_271
  · replace hf := ie h11 hf
    refine j_iload_n dX0_price_11 0 rfl ?_
    replace hf := Option.some.inj hf
    subst hf
    exact j_ireturn (bC_mv G A) ⟨Nat.le_refl 0, Nat.le_refl 0⟩ rfl dX0_price_12
theorem t20_init {G : CG} {A : Nat → Prop} {l : Launch} {r : Sg} {c0 n0 : Nat} (v0 : Option Nat) (u : Sg) (hf : f20_init G v0 u = some (r, c0, n0)) : JM kC (bC G A) A l yX20_init D20_init [pR v0] u none r c0 n0 := by
  refine j_met (lv0 := [(0, pR v0)]) ⟨pl_X20, rfl, rfl, (Nat.le_of_ble_eq_true rfl), rfl⟩ ?_
  have hcs : 0 + c0 ≤ c0 ∧ 0 + n0 ≤ n0 := ⟨by omega, by omega⟩
  unfold f20_init at hf
  refine j_aload_n dX20_init_0 0 rfl ?_
  obtain ⟨b1, eb1, hg⟩ := ob hf
  clear hf
  subst eb1
  have hf := hg
  clear hg
  refine c_objInit q1599 q177 q178 (Nat.le_of_ble_eq_true rfl) (Nat.le_of_ble_eq_true rfl) (Nat.le_of_ble_eq_true rfl) dX20_init_1 ?_
  refine j_aload_n dX20_init_4 0 rfl ?_
  refine j_bipush dX20_init_5 (by decide) ?_
  obtain ⟨q2, kq2, mq2, k_q2, m_q2, hq2, hf, hkq2, hmq2⟩ := bdU_s hf
  obtain ⟨hczq2, hcs⟩ := hcs_step hcs hkq2 hmq2
  refine c_newa hq2 zat_1 dX20_init_7 hczq2 ?_
  obtain ⟨u3, hu3, hf⟩ := ob hf
  refine c_putaF (ci := 20) (k := 0) hu3 zcl_20 (Nat.le_of_ble_eq_true rfl) zf_X20_9 fk_800 rfl rfl rfl fits_A dX20_init_9 ?_
  refine j_aload_n dX20_init_12 0 rfl ?_
  refine j_bipush dX20_init_13 (by decide) ?_
  obtain ⟨q4, kq4, mq4, k_q4, m_q4, hq4, hf, hkq4, hmq4⟩ := bdU_s hf
  obtain ⟨hczq4, hcs⟩ := hcs_step hcs hkq4 hmq4
  refine c_newa hq4 zat_1 dX20_init_15 hczq4 ?_
  obtain ⟨u5, hu5, hf⟩ := ob hf
  refine c_putaF (ci := 20) (k := 1) hu5 zcl_20 (Nat.le_of_ble_eq_true rfl) zf_X20_15 fk_801 rfl rfl rfl fits_A dX20_init_17 ?_
  refine j_aload_n dX20_init_20 0 rfl ?_
  refine j_bipush dX20_init_21 (by decide) ?_
  obtain ⟨q6, kq6, mq6, k_q6, m_q6, hq6, hf, hkq6, hmq6⟩ := bdU_s hf
  obtain ⟨hczq6, hcs⟩ := hcs_step hcs hkq6 hmq6
  refine c_newa hq6 zat_1 dX20_init_23 hczq6 ?_
  obtain ⟨u7, hu7, hf⟩ := ob hf
  refine c_putaF (ci := 20) (k := 2) hu7 zcl_20 (Nat.le_of_ble_eq_true rfl) zf_X20_18 fk_802 rfl rfl rfl fits_A dX20_init_25 ?_
  refine j_aload_n dX20_init_28 0 rfl ?_
  refine j_bipush dX20_init_29 (by decide) ?_
  obtain ⟨q8, kq8, mq8, k_q8, m_q8, hq8, hf, hkq8, hmq8⟩ := bdU_s hf
  obtain ⟨hczq8, hcs⟩ := hcs_step hcs hkq8 hmq8
  refine c_newa hq8 zat_1 dX20_init_31 hczq8 ?_
  obtain ⟨u9, hu9, hf⟩ := ob hf
  refine c_putaF (ci := 20) (k := 3) hu9 zcl_20 (Nat.le_of_ble_eq_true rfl) zf_X20_21 fk_803 rfl rfl rfl fits_A dX20_init_33 ?_
  replace hf := retU hf
  subst hf
  exact j_return (bC_mv G A) (hcs_ret (x := ()) (r := ()) hcs) rfl dX20_init_36
theorem t0_policy {G : CG} {A : Nat → Prop} {l : Launch} {r : Int × Sg} {c0 n0 : Nat} (v0 : Option Nat) (u : Sg) (hf : f0_policy G v0 u = some (r, c0, n0)) : JM kC (bC G A) A l yX0_policy D0_policy [pR v0] u (some (pI r.1)) r.2 c0 n0 := by
  refine j_met (lv0 := [(0, pR v0)]) ⟨pl_X0, rfl, rfl, (Nat.le_of_ble_eq_true rfl), rfl⟩ ?_
  have hcs : 0 + c0 ≤ c0 ∧ 0 + n0 ≤ n0 := ⟨by omega, by omega⟩
  unfold f0_policy at hf
  refine j_aload_n dX0_policy_0 0 rfl ?_
  obtain ⟨x1, hx1, hf⟩ := ob hf
  refine c_geta (ci := 0) (k := 7) hx1 zcl_0 (Nat.le_of_ble_eq_true rfl) zf_X0_89 fk_7 dX0_policy_1 ?_
  obtain ⟨b2, hb2, hf⟩ := ob hf
  obtain ⟨eb2, tb2⟩ := ztg_s hb2
  obtain ⟨x3, hx3, hf⟩ := ob hf
  refine a_Fr (x := ix_0) [] [] (tJ2_size (some b2) u hx3) ⟨q556, q559, q561, q131, q563⟩ iF_0 df_0 rfl ⟨(Nat.le_of_ble_eq_true rfl), (Nat.le_of_ble_eq_true rfl)⟩ zcl_5 rfl tb2 (by rw [← eb2]; rfl) (Nat.le_of_ble_eq_true rfl) dX0_policy_4 (hcs_ret (x := ()) (r := ()) hcs) ?_
  refine j_bipush dX0_policy_9 (by decide) ?_
  refine j_icmp_ne (w32 x3) 12 rfl rfl 17 dX0_policy_11 (by decide) (fun h12 => ?_) (fun h12 => ?_)
  · replace hf := ie h12 hf
    refine j_aload_n dX0_policy_17 0 rfl ?_
    obtain ⟨x4, hx4, hf⟩ := ob hf
    refine c_geta (ci := 0) (k := 7) hx4 zcl_0 (Nat.le_of_ble_eq_true rfl) zf_X0_89 fk_7 dX0_policy_18 ?_
    obtain ⟨q5, kq5, mq5, k_q5, m_q5, hq5, hf, hkq5, hmq5⟩ := bdU_s hf
    obtain ⟨hczq5, hcs⟩ := hcs_step hcs hkq5 hmq5
    refine c_new (ci := 20) hq5 zcl_20 zmk_20 q1594 dX0_policy_21 hczq5 ?_
    refine j_dup dX0_policy_24 rfl ?_
    obtain ⟨q6, kq6, mq6, k_q6, m_q6, hq6, hf, hkq6, hmq6⟩ := bdU_s hf
    obtain ⟨hczq6, hcs⟩ := hcs_step hcs hkq6 hmq6
    refine c_callIN [] [pR (some q5.1), pR x4] _ (t20_init (some q5.1) q5.2 hq6) ⟨q1596, q1597, q169, q1598, rfl, rfl⟩ dv20_init rfl ⟨(Nat.le_of_ble_eq_true rfl), (Nat.le_of_ble_eq_true rfl)⟩ rfl (Nat.le_of_ble_eq_true rfl) dX0_policy_25 hczq6 ?_
    obtain ⟨b7, hb7, hf⟩ := ob hf
    obtain ⟨eb7, tb7⟩ := ztg_s hb7
    obtain ⟨q8, kq8, mq8, k_q8, m_q8, hq8, hf, hkq8, hmq8⟩ := bdU_s hf
    obtain ⟨hczq8, hcs⟩ := hcs_step hcs hkq8 hmq8
    refine a_Fr (x := ix_2) [pR (some q5.1)] [] (tJ2_add (some b7) (some q5.1) q6 hq8) ⟨q1255, q325, q327, q131, q329⟩ iF_2 df_2 rfl ⟨(Nat.le_of_ble_eq_true rfl), (Nat.le_of_ble_eq_true rfl)⟩ zcl_5 rfl tb7 (by rw [← eb7]; rfl) (Nat.le_of_ble_eq_true rfl) dX0_policy_28 hczq8 ?_
    refine j_pop dX0_policy_33 rfl ?_
    refine j_aload_n dX0_policy_34 0 rfl ?_
    obtain ⟨x9, hx9, hf⟩ := ob hf
    refine c_geta (ci := 0) (k := 7) hx9 zcl_0 (Nat.le_of_ble_eq_true rfl) zf_X0_89 fk_7 dX0_policy_35 ?_
    obtain ⟨b10, hb10, hf⟩ := ob hf
    obtain ⟨eb10, tb10⟩ := ztg_s hb10
    obtain ⟨x11, hx11, hf⟩ := ob hf
    refine a_Fr (x := ix_0) [] [] (tJ2_size (some b10) q8.2 hx11) ⟨q556, q559, q561, q131, q563⟩ iF_0 df_0 rfl ⟨(Nat.le_of_ble_eq_true rfl), (Nat.le_of_ble_eq_true rfl)⟩ zcl_5 rfl tb10 (by rw [← eb10]; rfl) (Nat.le_of_ble_eq_true rfl) dX0_policy_38 (hcs_ret (x := ()) (r := ()) hcs) ?_
    replace hf := retU hf
    subst hf
    exact j_ireturn (bC_mv G A) (hcs_ret (x := ()) (r := ()) hcs) rfl dX0_policy_43
  · replace hf := it h12 hf
    refine j_bipush dX0_policy_14 (by decide) ?_
    replace hf := retU hf
    subst hf
    exact j_ireturn (bC_mv G A) (hcs_ret (x := ()) (r := ()) hcs) rfl dX0_policy_16
theorem t0_isPolicy {G : CG} {A : Nat → Prop} {l : Launch} {r : Int} (v0 : Option Nat) (v1 : Int) (u : Sg) (hf : f0_isPolicy G v0 v1 u = some r) : JM kC (bC G A) A l yX0_isPolicy D0_isPolicy [pR v0, pI v1] u (some (pI r)) u 0 0 := by
  refine j_met (lv0 := [(0, pR v0), (1, pI v1)]) ⟨pl_X0, rfl, rfl, (Nat.le_of_ble_eq_true rfl), rfl⟩ ?_
  unfold f0_isPolicy at hf
  refine j_iload_n dX0_isPolicy_0 1 rfl ?_
  refine j_if_le (w32 v1) rfl 21 dX0_isPolicy_1 (by decide) (fun h5 => ?_) (fun h5 => ?_)
  · replace hf := it h5 hf
    refine j_iconst dX0_isPolicy_21 ?_
    replace hf := Option.some.inj hf
    subst hf
    exact j_zreturn (x := 0) (bC_mv G A) ⟨Nat.le_refl 0, Nat.le_refl 0⟩ (ty := .boolean) rfl (nar_z (Or.inl rfl)) dX0_isPolicy_22
  · replace hf := ie h5 hf
    refine j_iload_n dX0_isPolicy_4 1 rfl ?_
    refine j_aload_n dX0_isPolicy_5 0 rfl ?_
    obtain ⟨x1, hx1, hf⟩ := ob hf
    refine c_geta (ci := 0) (k := 7) hx1 zcl_0 (Nat.le_of_ble_eq_true rfl) zf_X0_89 fk_7 dX0_isPolicy_6 ?_
    obtain ⟨b2, hb2, hf⟩ := ob hf
    obtain ⟨eb2, tb2⟩ := ztg_s hb2
    obtain ⟨x3, hx3, hf⟩ := ob hf
    refine a_Fr (x := ix_0) [] [pI v1] (tJ2_size (some b2) u hx3) ⟨q556, q559, q561, q131, q563⟩ iF_0 df_0 rfl ⟨(Nat.le_of_ble_eq_true rfl), (Nat.le_of_ble_eq_true rfl)⟩ zcl_5 rfl tb2 (by rw [← eb2]; rfl) (Nat.le_of_ble_eq_true rfl) dX0_isPolicy_9 ⟨Nat.le_refl 0, Nat.le_refl 0⟩ ?_
    refine j_icmp_gt (w32 v1) (w32 x3) rfl rfl 21 dX0_isPolicy_14 (by decide) (fun h4 => ?_) (fun h4 => ?_)
    · replace hf := it h4 hf
      refine j_iconst dX0_isPolicy_21 ?_
      replace hf := Option.some.inj hf
      subst hf
      exact j_zreturn (x := 0) (bC_mv G A) ⟨Nat.le_refl 0, Nat.le_refl 0⟩ (ty := .boolean) rfl (nar_z (Or.inl rfl)) dX0_isPolicy_22
    · replace hf := ie h4 hf
      refine j_iconst dX0_isPolicy_17 ?_
      refine j_goto 22 dX0_isPolicy_18 (by decide) ?_
      replace hf := Option.some.inj hf
      subst hf
      exact j_zreturn (x := 1) (bC_mv G A) ⟨Nat.le_refl 0, Nat.le_refl 0⟩ (ty := .boolean) rfl (nar_z (Or.inr rfl)) dX0_isPolicy_22
theorem t0_change_b65 {G : CG} {A : Nat → Prop} {l : Launch} {a : List PV} {r : Int × Sg} (v0 : Option Nat) (v1 : Int) (v2 : Int) (v3 : Int) (v4 : Int) (v5 : Int) (u : Sg) (hf : f0_change_b65 G v0 v1 v2 v3 v4 v5 u = some r) : JW kC (bC G A) A l D0_change a (jQ (bC G A) A a (some (pI r.1)) r.2 0 0) 0 0 u 0 0 65 [(0, pR v0), (1, pI v1), (2, pI v2), (3, pI v3), (4, pI v4), (5, pI v5)] [] := by
  unfold f0_change_b65 at hf
  refine j_iload dX0_change_65 4 rfl ?_
  obtain ⟨x1, hx1, hf⟩ := ob hf
  refine a_Sr [pI v4] [] (t0_isDay v4 u hx1) ⟨q1478, q1479, q128, q1480⟩ dv0_isDay rfl ⟨(Nat.le_of_ble_eq_true rfl), (Nat.le_of_ble_eq_true rfl)⟩ rfl (Nat.le_of_ble_eq_true rfl) dX0_change_67 ⟨Nat.le_refl 0, Nat.le_refl 0⟩ ?_
  refine j_if_eq (w32 x1) rfl 81 dX0_change_70 (by decide) (fun h24 => ?_) (fun h24 => ?_)
  · replace hf := it h24 hf
    refine j_bipush dX0_change_81 (by decide) ?_
    replace hf := Option.some.inj hf
    subst hf
    exact j_ireturn (bC_mv G A) ⟨Nat.le_refl 0, Nat.le_refl 0⟩ rfl dX0_change_83
  · replace hf := ie h24 hf
    refine j_iload dX0_change_73 5 rfl ?_
    obtain ⟨x2, hx2, hf⟩ := ob hf
    refine a_Sr [pI v5] [] (t0_isDay v5 u hx2) ⟨q1478, q1479, q128, q1480⟩ dv0_isDay rfl ⟨(Nat.le_of_ble_eq_true rfl), (Nat.le_of_ble_eq_true rfl)⟩ rfl (Nat.le_of_ble_eq_true rfl) dX0_change_75 ⟨Nat.le_refl 0, Nat.le_refl 0⟩ ?_
    refine j_if_ne (w32 x2) rfl 84 dX0_change_78 (by decide) (fun h23 => ?_) (fun h23 => ?_)
    · replace hf := ie h23 hf
      refine j_aload_n dX0_change_84 0 rfl ?_
      obtain ⟨x3, hx3, hf⟩ := ob hf
      refine c_geta (ci := 0) (k := 7) hx3 zcl_0 (Nat.le_of_ble_eq_true rfl) zf_X0_89 fk_7 dX0_change_85 ?_
      refine j_iload_n dX0_change_88 1 rfl ?_
      refine j_iconst dX0_change_89 ?_
      refine j_isub dX0_change_90 ?_
      obtain ⟨b4, hb4, hf⟩ := ob hf
      obtain ⟨eb4, tb4⟩ := ztg_s hb4
      obtain ⟨x5, hx5, hf⟩ := ob hf
      refine a_Fr (x := ix_1) [pI (v1 - 1)] [] (tJ2_get (some b4) (v1 - 1) u hx5) ⟨q1273, q813, q815, q131, q817⟩ iF_1 df_1 rfl ⟨(Nat.le_of_ble_eq_true rfl), (Nat.le_of_ble_eq_true rfl)⟩ zcl_5 rfl tb4 (by rw [← eb4]; rfl) (Nat.le_of_ble_eq_true rfl) dX0_change_91 ⟨Nat.le_refl 0, Nat.le_refl 0⟩ ?_
      obtain ⟨y6, hy6, hf⟩ := ob hf
      refine c_cast hy6 zok_Policy q1594 dX0_change_96 ?_
      refine j_astore dX0_change_99 [(6, pR x5), (0, pR v0), (1, pI v1), (2, pI v2), (3, pI v3), (4, pI v4), (5, pI v5)] (Nat.le_of_ble_eq_true rfl) rfl ?_
      refine j_aload dX0_change_101 0 rfl ?_
      obtain ⟨x7, hx7, hf⟩ := ob hf
      refine c_getiN (ci := 20) (k := 4) hx7 zcl_20 (Nat.le_of_ble_eq_true rfl) zf_X0_424 fk_804 dX0_change_103 ?_
      refine j_bipush dX0_change_106 (by decide) ?_
      refine j_icmp_ne (w32 x7) 24 rfl rfl 114 dX0_change_108 (by decide) (fun h22 => ?_) (fun h22 => ?_)
      · replace hf := ie h22 hf
        refine j_aload dX0_change_114 0 rfl ?_
        obtain ⟨x8, hx8, hf⟩ := ob hf
        refine c_getaN (ci := 20) (k := 0) hx8 zcl_20 (Nat.le_of_ble_eq_true rfl) zf_X0_425 fk_800 dX0_change_116 ?_
        refine j_aload dX0_change_119 0 rfl ?_
        obtain ⟨x9, hx9, hf⟩ := ob hf
        refine c_getiN (ci := 20) (k := 4) hx9 zcl_20 (Nat.le_of_ble_eq_true rfl) zf_X0_424 fk_804 dX0_change_121 ?_
        refine j_iload_n dX0_change_124 3 rfl ?_
        obtain ⟨u10, hu10, hf⟩ := ob hf
        refine c_iast hu10 dX0_change_125 ?_
        refine j_aload dX0_change_126 0 rfl ?_
        obtain ⟨x11, hx11, hf⟩ := ob hf
        refine c_getaN (ci := 20) (k := 1) hx11 zcl_20 (Nat.le_of_ble_eq_true rfl) zf_X0_428 fk_801 dX0_change_128 ?_
        refine j_aload dX0_change_131 0 rfl ?_
        obtain ⟨x12, hx12, hf⟩ := ob hf
        refine c_getiN (ci := 20) (k := 4) hx12 zcl_20 (Nat.le_of_ble_eq_true rfl) zf_X0_424 fk_804 dX0_change_133 ?_
        refine j_iload_n dX0_change_136 4 rfl ?_
        obtain ⟨u13, hu13, hf⟩ := ob hf
        refine c_iast hu13 dX0_change_137 ?_
        refine j_aload dX0_change_138 0 rfl ?_
        obtain ⟨x14, hx14, hf⟩ := ob hf
        refine c_getaN (ci := 20) (k := 2) hx14 zcl_20 (Nat.le_of_ble_eq_true rfl) zf_X0_431 fk_802 dX0_change_140 ?_
        refine j_aload dX0_change_143 0 rfl ?_
        obtain ⟨x15, hx15, hf⟩ := ob hf
        refine c_getiN (ci := 20) (k := 4) hx15 zcl_20 (Nat.le_of_ble_eq_true rfl) zf_X0_424 fk_804 dX0_change_145 ?_
        refine j_iload dX0_change_148 5 rfl ?_
        obtain ⟨u16, hu16, hf⟩ := ob hf
        refine c_iast hu16 dX0_change_150 ?_
        refine j_aload dX0_change_151 0 rfl ?_
        obtain ⟨x17, hx17, hf⟩ := ob hf
        refine c_getaN (ci := 20) (k := 3) hx17 zcl_20 (Nat.le_of_ble_eq_true rfl) zf_X0_434 fk_803 dX0_change_153 ?_
        refine j_aload dX0_change_156 0 rfl ?_
        refine j_dup dX0_change_158 rfl ?_
        obtain ⟨x18, hx18, hf⟩ := ob hf
        refine c_getiN (ci := 20) (k := 4) hx18 zcl_20 (Nat.le_of_ble_eq_true rfl) zf_X0_424 fk_804 dX0_change_159 ?_
        refine j_dup_x1 dX0_change_162 rfl rfl ?_
        refine j_iconst dX0_change_163 ?_
        refine j_iadd dX0_change_164 ?_
        obtain ⟨u19, hu19, hf⟩ := ob hf
        refine c_putiN (ci := 20) (k := 4) hu19 zcl_20 (Nat.le_of_ble_eq_true rfl) zf_X0_424 fk_804 rfl fits_I dX0_change_165 ?_
        refine j_iload dX0_change_168 6 rfl ?_
        obtain ⟨u20, hu20, hf⟩ := ob hf
        refine c_iast hu20 dX0_change_170 ?_
        refine j_aload dX0_change_171 0 rfl ?_
        obtain ⟨x21, hx21, hf⟩ := ob hf
        refine c_getiN (ci := 20) (k := 4) hx21 zcl_20 (Nat.le_of_ble_eq_true rfl) zf_X0_424 fk_804 dX0_change_173 ?_
        replace hf := Option.some.inj hf
        subst hf
        exact j_ireturn (bC_mv G A) ⟨Nat.le_refl 0, Nat.le_refl 0⟩ rfl dX0_change_176
      · replace hf := it h22 hf
        refine j_bipush dX0_change_111 (by decide) ?_
        replace hf := Option.some.inj hf
        subst hf
        exact j_ireturn (bC_mv G A) ⟨Nat.le_refl 0, Nat.le_refl 0⟩ rfl dX0_change_113
    · replace hf := it h23 hf
      refine j_bipush dX0_change_81 (by decide) ?_
      replace hf := Option.some.inj hf
      subst hf
      exact j_ireturn (bC_mv G A) ⟨Nat.le_refl 0, Nat.le_refl 0⟩ rfl dX0_change_83
theorem t0_change_b51 {G : CG} {A : Nat → Prop} {l : Launch} {a : List PV} {r : Int × Sg} (v0 : Option Nat) (v1 : Int) (v2 : Int) (v3 : Int) (v4 : Int) (v5 : Int) (u : Sg) (hf : f0_change_b51 G v0 v1 v2 v3 v4 v5 u = some r) : JW kC (bC G A) A l D0_change a (jQ (bC G A) A a (some (pI r.1)) r.2 0 0) 0 0 u 0 0 51 [(0, pR v0), (1, pI v1), (2, pI v2), (3, pI v3), (4, pI v4), (5, pI v5)] [] := by
  unfold f0_change_b51 at hf
  refine j_iload_n dX0_change_51 2 rfl ?_
  refine j_iconst dX0_change_52 ?_
  refine j_icmp_ne (w32 v2) 2 rfl rfl 65 dX0_change_53 (by decide) (fun h3 => ?_) (fun h3 => ?_)
  · replace hf := ie h3 hf
    exact j_sub [0, 1, 2, 3, 4, 5] _ rfl (t0_change_b65 v0 v1 v2 v3 v4 v5 u hf)
  · replace hf := it h3 hf
    refine j_iload_n dX0_change_56 3 rfl ?_
    refine j_if_lt (w32 v3) rfl 81 dX0_change_57 (by decide) (fun h2 => ?_) (fun h2 => ?_)
    · replace hf := it h2 hf
      refine j_bipush dX0_change_81 (by decide) ?_
      replace hf := Option.some.inj hf
      subst hf
      exact j_ireturn (bC_mv G A) ⟨Nat.le_refl 0, Nat.le_refl 0⟩ rfl dX0_change_83
    · replace hf := ie h2 hf
      refine j_iload_n dX0_change_60 3 rfl ?_
      refine j_iconst dX0_change_61 ?_
      refine j_icmp_gt (w32 v3) 1 rfl rfl 81 dX0_change_62 (by decide) (fun h1 => ?_) (fun h1 => ?_)
      · replace hf := it h1 hf
        refine j_bipush dX0_change_81 (by decide) ?_
        replace hf := Option.some.inj hf
        subst hf
        exact j_ireturn (bC_mv G A) ⟨Nat.le_refl 0, Nat.le_refl 0⟩ rfl dX0_change_83
      · replace hf := ie h1 hf
        exact j_sub [0, 1, 2, 3, 4, 5] _ rfl (t0_change_b65 v0 v1 v2 v3 v4 v5 u hf)
theorem t0_change_b35 {G : CG} {A : Nat → Prop} {l : Launch} {a : List PV} {r : Int × Sg} (v0 : Option Nat) (v1 : Int) (v2 : Int) (v3 : Int) (v4 : Int) (v5 : Int) (u : Sg) (hf : f0_change_b35 G v0 v1 v2 v3 v4 v5 u = some r) : JW kC (bC G A) A l D0_change a (jQ (bC G A) A a (some (pI r.1)) r.2 0 0) 0 0 u 0 0 35 [(0, pR v0), (1, pI v1), (2, pI v2), (3, pI v3), (4, pI v4), (5, pI v5)] [] := by
  unfold f0_change_b35 at hf
  refine j_iload_n dX0_change_35 2 rfl ?_
  refine j_iconst dX0_change_36 ?_
  refine j_icmp_ne (w32 v2) 1 rfl rfl 51 dX0_change_37 (by decide) (fun h3 => ?_) (fun h3 => ?_)
  · replace hf := ie h3 hf
    exact j_sub [0, 1, 2, 3, 4, 5] _ rfl (t0_change_b51 v0 v1 v2 v3 v4 v5 u hf)
  · replace hf := it h3 hf
    refine j_iload_n dX0_change_40 3 rfl ?_
    refine j_if_lt (w32 v3) rfl 81 dX0_change_41 (by decide) (fun h2 => ?_) (fun h2 => ?_)
    · replace hf := it h2 hf
      refine j_bipush dX0_change_81 (by decide) ?_
      replace hf := Option.some.inj hf
      subst hf
      exact j_ireturn (bC_mv G A) ⟨Nat.le_refl 0, Nat.le_refl 0⟩ rfl dX0_change_83
    · replace hf := ie h2 hf
      refine j_iload_n dX0_change_44 3 rfl ?_
      refine j_ldcw (z := 99999999) q1629 (by decide) dX0_change_45 ?_
      refine j_icmp_gt (w32 v3) 99999999 rfl rfl 81 dX0_change_48 (by decide) (fun h1 => ?_) (fun h1 => ?_)
      · replace hf := it h1 hf
        refine j_bipush dX0_change_81 (by decide) ?_
        replace hf := Option.some.inj hf
        subst hf
        exact j_ireturn (bC_mv G A) ⟨Nat.le_refl 0, Nat.le_refl 0⟩ rfl dX0_change_83
      · replace hf := ie h1 hf
        exact j_sub [0, 1, 2, 3, 4, 5] _ rfl (t0_change_b51 v0 v1 v2 v3 v4 v5 u hf)
theorem t0_change {G : CG} {A : Nat → Prop} {l : Launch} {r : Int × Sg} (v0 : Option Nat) (v1 : Int) (v2 : Int) (v3 : Int) (v4 : Int) (v5 : Int) (u : Sg) (hf : f0_change G v0 v1 v2 v3 v4 v5 u = some r) : JM kC (bC G A) A l yX0_change D0_change [pR v0, pI v1, pI v2, pI v3, pI v4, pI v5] u (some (pI r.1)) r.2 0 0 := by
  refine j_met (lv0 := [(0, pR v0), (1, pI v1), (2, pI v2), (3, pI v3), (4, pI v4), (5, pI v5)]) ⟨pl_X0, rfl, rfl, (Nat.le_of_ble_eq_true rfl), rfl⟩ ?_
  unfold f0_change at hf
  refine j_aload_n dX0_change_0 0 rfl ?_
  refine j_iload_n dX0_change_1 1 rfl ?_
  obtain ⟨b1, hb1, hf⟩ := ob hf
  obtain ⟨eb1, tb1⟩ := ztg_s hb1
  obtain ⟨x2, hx2, hf⟩ := ob hf
  refine a_Vr [pI v1] [] (t0_isPolicy (some b1) v1 u hx2) ⟨q1625, q1627, qs43, q128, q1628⟩ dv0_isPolicy rfl ⟨(Nat.le_of_ble_eq_true rfl), (Nat.le_of_ble_eq_true rfl)⟩ (c_recv zcl_0 tb1) (by rw [← eb1]; rfl) (Nat.le_of_ble_eq_true rfl) dX0_change_2 ⟨Nat.le_refl 0, Nat.le_refl 0⟩ ?_
  refine j_if_eq (w32 x2) rfl 33 dX0_change_5 (by decide) (fun h10 => ?_) (fun h10 => ?_)
  · replace hf := it h10 hf
    refine j_iconst dX0_change_33 ?_
    replace hf := Option.some.inj hf
    subst hf
    exact j_ireturn (bC_mv G A) ⟨Nat.le_refl 0, Nat.le_refl 0⟩ rfl dX0_change_34
  · replace hf := ie h10 hf
    refine j_iload_n dX0_change_8 2 rfl ?_
    refine j_if_lt (w32 v2) rfl 33 dX0_change_9 (by decide) (fun h9 => ?_) (fun h9 => ?_)
    · replace hf := it h9 hf
      refine j_iconst dX0_change_33 ?_
      replace hf := Option.some.inj hf
      subst hf
      exact j_ireturn (bC_mv G A) ⟨Nat.le_refl 0, Nat.le_refl 0⟩ rfl dX0_change_34
    · replace hf := ie h9 hf
      refine j_iload_n dX0_change_12 2 rfl ?_
      refine j_iconst dX0_change_13 ?_
      refine j_icmp_gt (w32 v2) 2 rfl rfl 33 dX0_change_14 (by decide) (fun h8 => ?_) (fun h8 => ?_)
      · replace hf := it h8 hf
        refine j_iconst dX0_change_33 ?_
        replace hf := Option.some.inj hf
        subst hf
        exact j_ireturn (bC_mv G A) ⟨Nat.le_refl 0, Nat.le_refl 0⟩ rfl dX0_change_34
      · replace hf := ie h8 hf
        refine j_iload_n dX0_change_17 2 rfl ?_
        refine j_if_ne (w32 v2) rfl 35 dX0_change_18 (by decide) (fun h7 => ?_) (fun h7 => ?_)
        · replace hf := ie h7 hf
          exact j_sub [0, 1, 2, 3, 4, 5] _ rfl (t0_change_b35 v0 v1 v2 v3 v4 v5 u hf)
        · replace hf := it h7 hf
          refine j_iload_n dX0_change_21 3 rfl ?_
          refine j_if_eq (w32 v3) rfl 35 dX0_change_22 (by decide) (fun h6 => ?_) (fun h6 => ?_)
          · replace hf := it h6 hf
            exact j_sub [0, 1, 2, 3, 4, 5] _ rfl (t0_change_b35 v0 v1 v2 v3 v4 v5 u hf)
          · replace hf := ie h6 hf
            refine j_aload_n dX0_change_25 0 rfl ?_
            refine j_iload_n dX0_change_26 3 rfl ?_
            obtain ⟨b3, hb3, hf⟩ := ob hf
            obtain ⟨eb3, tb3⟩ := ztg_s hb3
            obtain ⟨x4, hx4, hf⟩ := ob hf
            refine a_Vr [pI v3] [] (t0_isWording (some b3) v3 u hx4) ⟨q1264, q1266, qs37, q128, q1267⟩ dv0_isWording rfl ⟨(Nat.le_of_ble_eq_true rfl), (Nat.le_of_ble_eq_true rfl)⟩ (c_recv zcl_0 tb3) (by rw [← eb3]; rfl) (Nat.le_of_ble_eq_true rfl) dX0_change_27 ⟨Nat.le_refl 0, Nat.le_refl 0⟩ ?_
            refine j_if_ne (w32 x4) rfl 35 dX0_change_30 (by decide) (fun h5 => ?_) (fun h5 => ?_)
            · replace hf := ie h5 hf
              exact j_sub [0, 1, 2, 3, 4, 5] _ rfl (t0_change_b35 v0 v1 v2 v3 v4 v5 u hf)
            · replace hf := it h5 hf
              refine j_iconst dX0_change_33 ?_
              replace hf := Option.some.inj hf
              subst hf
              exact j_ireturn (bC_mv G A) ⟨Nat.le_refl 0, Nat.le_refl 0⟩ rfl dX0_change_34
theorem t20_on_b112 {G : CG} {A : Nat → Prop} {l : Launch} {a : List PV} {r : Int} {Kf : Int → Option (Int)} {v0 : Option Nat} {v1 : Int} {v2 : Int} {v3 : Int} {u : Sg} (kh : Int → Int → Option (Int)) (hkh : ∀ (z4 : Int) (z5 : Int), ((kh z4 z5).bind Kf = some r) → JW kC (bC G A) A l D20_on a (jQ (bC G A) A a (some (pI r)) u 0 0) 0 0 u 0 0 6 [(0, pR v0), (1, pI v1), (2, pI v2), (3, pI v3), (4, pI z4), (5, pI z5)] []) (hK0 : ∀ q : Int, Kf q = some r → JW kC (bC G A) A l D20_on a (jQ (bC G A) A a (some (pI r)) u 0 0) 0 0 u 0 0 134 [(0, pR v0), (4, pI q)] []) (v4 : Int) (v5 : Int) (s0 : Int) (hf : (f20_on_b112 G kh v0 v1 v2 v3 v4 v5 s0 u).bind Kf = some r) : JW kC (bC G A) A l D20_on a (jQ (bC G A) A a (some (pI r)) u 0 0) 0 0 u 0 0 112 [(0, pR v0), (1, pI v1), (2, pI v2), (3, pI v3), (4, pI v4), (5, pI v5)] [pI s0] := by
  unfold f20_on_b112 at hf
  refine j_istore dX20_on_112 [(6, pI s0), (0, pR v0), (1, pI v1), (2, pI v2), (3, pI v3), (4, pI v4), (5, pI v5)] (Nat.le_of_ble_eq_true rfl) rfl ?_
  refine j_iload dX20_on_114 0 rfl ?_
  refine j_if_eq (w32 s0) rfl 124 dX20_on_116 (by decide) (fun h1 => ?_) (fun h1 => ?_)
  · replace hf := itb h1 hf
    refine j_iload dX20_on_124 5 rfl ?_
    refine j_istore dX20_on_126 [(4, pI v4), (6, pI s0), (0, pR v0), (1, pI v1), (2, pI v2), (3, pI v3), (5, pI v5)] (Nat.le_of_ble_eq_true rfl) rfl ?_
    refine j_iinc dX20_on_128 6 rfl [(5, pI (v5 + 1)), (4, pI v4), (6, pI s0), (0, pR v0), (1, pI v1), (2, pI v2), (3, pI v3)] (Nat.le_of_ble_eq_true rfl) rfl ?_
    refine j_goto 6 dX20_on_131 (by decide) ?_
    exact j_sub [3, 4, 5, 6, 1, 0] _ rfl (hkh v4 (v5 + 1) hf)
  · replace hf := ieb h1 hf
    refine j_iload dX20_on_119 6 rfl ?_
    refine j_goto 126 dX20_on_121 (by decide) ?_
    refine j_istore dX20_on_126 [(4, pI v5), (6, pI s0), (0, pR v0), (1, pI v1), (2, pI v2), (3, pI v3), (5, pI v5)] (Nat.le_of_ble_eq_true rfl) rfl ?_
    refine j_iinc dX20_on_128 6 rfl [(5, pI (v5 + 1)), (4, pI v5), (6, pI s0), (0, pR v0), (1, pI v1), (2, pI v2), (3, pI v3)] (Nat.le_of_ble_eq_true rfl) rfl ?_
    refine j_goto 6 dX20_on_131 (by decide) ?_
    exact j_sub [3, 4, 5, 6, 1, 0] _ rfl (hkh v5 (v5 + 1) hf)
theorem t20_on_b107 {G : CG} {A : Nat → Prop} {l : Launch} {a : List PV} {r : Int} {Kf : Int → Option (Int)} {v0 : Option Nat} {v1 : Int} {v2 : Int} {v3 : Int} {u : Sg} (kh : Int → Int → Option (Int)) (hkh : ∀ (z4 : Int) (z5 : Int), ((kh z4 z5).bind Kf = some r) → JW kC (bC G A) A l D20_on a (jQ (bC G A) A a (some (pI r)) u 0 0) 0 0 u 0 0 6 [(0, pR v0), (1, pI v1), (2, pI v2), (3, pI v3), (4, pI z4), (5, pI z5)] []) (hK0 : ∀ q : Int, Kf q = some r → JW kC (bC G A) A l D20_on a (jQ (bC G A) A a (some (pI r)) u 0 0) 0 0 u 0 0 134 [(0, pR v0), (4, pI q)] []) (v4 : Int) (v5 : Int) (hf : (f20_on_b107 G kh v0 v1 v2 v3 v4 v5 u).bind Kf = some r) : JW kC (bC G A) A l D20_on a (jQ (bC G A) A a (some (pI r)) u 0 0) 0 0 u 0 0 107 [(0, pR v0), (1, pI v1), (2, pI v2), (3, pI v3), (4, pI v4), (5, pI v5)] [] := by
  unfold f20_on_b107 at hf
  refine j_iconst dX20_on_107 ?_
  refine j_goto 112 dX20_on_108 (by decide) ?_
  exact j_sub [0, 1, 2, 3, 4, 5] _ rfl (t20_on_b112 (kh) hkh hK0 v4 v5 1 hf)
theorem t20_on_b111 {G : CG} {A : Nat → Prop} {l : Launch} {a : List PV} {r : Int} {Kf : Int → Option (Int)} {v0 : Option Nat} {v1 : Int} {v2 : Int} {v3 : Int} {u : Sg} (kh : Int → Int → Option (Int)) (hkh : ∀ (z4 : Int) (z5 : Int), ((kh z4 z5).bind Kf = some r) → JW kC (bC G A) A l D20_on a (jQ (bC G A) A a (some (pI r)) u 0 0) 0 0 u 0 0 6 [(0, pR v0), (1, pI v1), (2, pI v2), (3, pI v3), (4, pI z4), (5, pI z5)] []) (hK0 : ∀ q : Int, Kf q = some r → JW kC (bC G A) A l D20_on a (jQ (bC G A) A a (some (pI r)) u 0 0) 0 0 u 0 0 134 [(0, pR v0), (4, pI q)] []) (v4 : Int) (v5 : Int) (hf : (f20_on_b111 G kh v0 v1 v2 v3 v4 v5 u).bind Kf = some r) : JW kC (bC G A) A l D20_on a (jQ (bC G A) A a (some (pI r)) u 0 0) 0 0 u 0 0 111 [(0, pR v0), (1, pI v1), (2, pI v2), (3, pI v3), (4, pI v4), (5, pI v5)] [] := by
  unfold f20_on_b111 at hf
  refine j_iconst dX20_on_111 ?_
  exact j_sub [0, 1, 2, 3, 4, 5] _ rfl (t20_on_b112 (kh) hkh hK0 v4 v5 0 hf)
theorem t20_on_l6 {G : CG} {A : Nat → Prop} {l : Launch} {a : List PV} {r : Int} {Kf : Int → Option (Int)} (v0 : Option Nat) (v1 : Int) (v2 : Int) (v3 : Int) (u : Sg) (hK0 : ∀ q : Int, Kf q = some r → JW kC (bC G A) A l D20_on a (jQ (bC G A) A a (some (pI r)) u 0 0) 0 0 u 0 0 134 [(0, pR v0), (4, pI q)] []) : ∀ (n : Nat) (v4 : Int) (v5 : Int), ((f20_on_l6 G v0 v1 v2 v3 u n v4 v5).bind Kf = some r) → JW kC (bC G A) A l D20_on a (jQ (bC G A) A a (some (pI r)) u 0 0) 0 0 u 0 0 6 [(0, pR v0), (1, pI v1), (2, pI v2), (3, pI v3), (4, pI v4), (5, pI v5)] [] := by
  intro n
  induction n with
  | zero => intro v4 v5 hf; exact onb hf
  | succ n ih =>
    intro v4 v5 hf
    unfold f20_on_l6 at hf
    refine j_iload dX20_on_6 5 rfl ?_
    refine j_aload_n dX20_on_8 0 rfl ?_
    obtain ⟨x1, hx1, hf⟩ := obb hf
    refine c_geti (ci := 20) (k := 4) hx1 zcl_20 (Nat.le_of_ble_eq_true rfl) zf_X20_24 fk_804 dX20_on_9 ?_
    refine j_icmp_ge (w32 v5) (w32 x1) rfl rfl 134 dX20_on_12 (by decide) (fun h27 => ?_) (fun h27 => ?_)
    · replace hf := itb h27 hf
      exact j_sub [0, 4] _ rfl (hK0 v4 hf)
    · replace hf := ieb h27 hf
      refine j_aload_n dX20_on_15 0 rfl ?_
      obtain ⟨x2, hx2, hf⟩ := obb hf
      refine c_geta (ci := 20) (k := 0) hx2 zcl_20 (Nat.le_of_ble_eq_true rfl) zf_X20_9 fk_800 dX20_on_16 ?_
      refine j_iload dX20_on_19 5 rfl ?_
      obtain ⟨x3, hx3, hf⟩ := obb hf
      refine c_iald hx3 dX20_on_21 ?_
      refine j_iload_n dX20_on_22 1 rfl ?_
      refine j_icmp_ne (w32 x3) (w32 v1) rfl rfl 128 dX20_on_23 (by decide) (fun h26 => ?_) (fun h26 => ?_)
      · replace hf := ieb h26 hf
        refine j_iinc dX20_on_128 5 rfl [(5, pI (v5 + 1)), (0, pR v0), (1, pI v1), (2, pI v2), (3, pI v3), (4, pI v4)] (Nat.le_of_ble_eq_true rfl) rfl ?_
        refine j_goto 6 dX20_on_131 (by decide) ?_
        exact j_sub [1, 2, 3, 4, 5, 0] _ rfl (ih v4 (v5 + 1) hf)
      · replace hf := itb h26 hf
        refine j_aload_n dX20_on_26 0 rfl ?_
        obtain ⟨x4, hx4, hf⟩ := obb hf
        refine c_geta (ci := 20) (k := 2) hx4 zcl_20 (Nat.le_of_ble_eq_true rfl) zf_X20_18 fk_802 dX20_on_27 ?_
        refine j_iload dX20_on_30 5 rfl ?_
        obtain ⟨x5, hx5, hf⟩ := obb hf
        refine c_iald hx5 dX20_on_32 ?_
        refine j_iload_n dX20_on_33 2 rfl ?_
        refine j_icmp_gt (w32 x5) (w32 v2) rfl rfl 128 dX20_on_34 (by decide) (fun h25 => ?_) (fun h25 => ?_)
        · replace hf := itb h25 hf
          refine j_iinc dX20_on_128 5 rfl [(5, pI (v5 + 1)), (0, pR v0), (1, pI v1), (2, pI v2), (3, pI v3), (4, pI v4)] (Nat.le_of_ble_eq_true rfl) rfl ?_
          refine j_goto 6 dX20_on_131 (by decide) ?_
          exact j_sub [1, 2, 3, 4, 5, 0] _ rfl (ih v4 (v5 + 1) hf)
        · replace hf := ieb h25 hf
          refine j_aload_n dX20_on_37 0 rfl ?_
          obtain ⟨x6, hx6, hf⟩ := obb hf
          refine c_geta (ci := 20) (k := 3) hx6 zcl_20 (Nat.le_of_ble_eq_true rfl) zf_X20_21 fk_803 dX20_on_38 ?_
          refine j_iload dX20_on_41 5 rfl ?_
          obtain ⟨x7, hx7, hf⟩ := obb hf
          refine c_iald hx7 dX20_on_43 ?_
          refine j_iload_n dX20_on_44 3 rfl ?_
          refine j_icmp_le (w32 x7) (w32 v3) rfl rfl 51 dX20_on_45 (by decide) (fun h24 => ?_) (fun h24 => ?_)
          · replace hf := itb h24 hf
            refine j_iload dX20_on_51 4 rfl ?_
            refine j_if_lt (w32 v4) rfl 107 dX20_on_53 (by decide) (fun h23 => ?_) (fun h23 => ?_)
            · replace hf := itb h23 hf
              exact j_sub [0, 1, 2, 3, 4, 5] _ rfl (t20_on_b107 (f20_on_l6 G v0 v1 v2 v3 u n) ih hK0 v4 v5 hf)
            · replace hf := ieb h23 hf
              refine j_aload_n dX20_on_56 0 rfl ?_
              obtain ⟨x8, hx8, hf⟩ := obb hf
              refine c_geta (ci := 20) (k := 2) hx8 zcl_20 (Nat.le_of_ble_eq_true rfl) zf_X20_18 fk_802 dX20_on_57 ?_
              refine j_iload dX20_on_60 5 rfl ?_
              obtain ⟨x9, hx9, hf⟩ := obb hf
              refine c_iald hx9 dX20_on_62 ?_
              refine j_aload_n dX20_on_63 0 rfl ?_
              obtain ⟨x10, hx10, hf⟩ := obb hf
              refine c_geta (ci := 20) (k := 2) hx10 zcl_20 (Nat.le_of_ble_eq_true rfl) zf_X20_18 fk_802 dX20_on_64 ?_
              refine j_iload dX20_on_67 4 rfl ?_
              obtain ⟨x11, hx11, hf⟩ := obb hf
              refine c_iald hx11 dX20_on_69 ?_
              refine j_icmp_gt (w32 x9) (w32 x11) rfl rfl 107 dX20_on_70 (by decide) (fun h22 => ?_) (fun h22 => ?_)
              · replace hf := itb h22 hf
                exact j_sub [0, 1, 2, 3, 4, 5] _ rfl (t20_on_b107 (f20_on_l6 G v0 v1 v2 v3 u n) ih hK0 v4 v5 hf)
              · replace hf := ieb h22 hf
                refine j_aload_n dX20_on_73 0 rfl ?_
                obtain ⟨x12, hx12, hf⟩ := obb hf
                refine c_geta (ci := 20) (k := 2) hx12 zcl_20 (Nat.le_of_ble_eq_true rfl) zf_X20_18 fk_802 dX20_on_74 ?_
                refine j_iload dX20_on_77 5 rfl ?_
                obtain ⟨x13, hx13, hf⟩ := obb hf
                refine c_iald hx13 dX20_on_79 ?_
                refine j_aload_n dX20_on_80 0 rfl ?_
                obtain ⟨x14, hx14, hf⟩ := obb hf
                refine c_geta (ci := 20) (k := 2) hx14 zcl_20 (Nat.le_of_ble_eq_true rfl) zf_X20_18 fk_802 dX20_on_81 ?_
                refine j_iload dX20_on_84 4 rfl ?_
                obtain ⟨x15, hx15, hf⟩ := obb hf
                refine c_iald hx15 dX20_on_86 ?_
                refine j_icmp_ne (w32 x13) (w32 x15) rfl rfl 111 dX20_on_87 (by decide) (fun h21 => ?_) (fun h21 => ?_)
                · replace hf := ieb h21 hf
                  exact j_sub [0, 1, 2, 3, 4, 5] _ rfl (t20_on_b111 (f20_on_l6 G v0 v1 v2 v3 u n) ih hK0 v4 v5 hf)
                · replace hf := itb h21 hf
                  refine j_aload_n dX20_on_90 0 rfl ?_
                  obtain ⟨x16, hx16, hf⟩ := obb hf
                  refine c_geta (ci := 20) (k := 3) hx16 zcl_20 (Nat.le_of_ble_eq_true rfl) zf_X20_21 fk_803 dX20_on_91 ?_
                  refine j_iload dX20_on_94 5 rfl ?_
                  obtain ⟨x17, hx17, hf⟩ := obb hf
                  refine c_iald hx17 dX20_on_96 ?_
                  refine j_aload_n dX20_on_97 0 rfl ?_
                  obtain ⟨x18, hx18, hf⟩ := obb hf
                  refine c_geta (ci := 20) (k := 3) hx18 zcl_20 (Nat.le_of_ble_eq_true rfl) zf_X20_21 fk_803 dX20_on_98 ?_
                  refine j_iload dX20_on_101 4 rfl ?_
                  obtain ⟨x19, hx19, hf⟩ := obb hf
                  refine c_iald hx19 dX20_on_103 ?_
                  refine j_icmp_lt (w32 x17) (w32 x19) rfl rfl 111 dX20_on_104 (by decide) (fun h20 => ?_) (fun h20 => ?_)
                  · replace hf := itb h20 hf
                    exact j_sub [0, 1, 2, 3, 4, 5] _ rfl (t20_on_b111 (f20_on_l6 G v0 v1 v2 v3 u n) ih hK0 v4 v5 hf)
                  · replace hf := ieb h20 hf
                    exact j_sub [0, 1, 2, 3, 4, 5] _ rfl (t20_on_b107 (f20_on_l6 G v0 v1 v2 v3 u n) ih hK0 v4 v5 hf)
          · replace hf := ieb h24 hf
            refine j_goto 128 dX20_on_48 (by decide) ?_
            refine j_iinc dX20_on_128 5 rfl [(5, pI (v5 + 1)), (0, pR v0), (1, pI v1), (2, pI v2), (3, pI v3), (4, pI v4)] (Nat.le_of_ble_eq_true rfl) rfl ?_
            refine j_goto 6 dX20_on_131 (by decide) ?_
            exact j_sub [1, 2, 3, 4, 5, 0] _ rfl (ih v4 (v5 + 1) hf)
theorem t20_on {G : CG} {A : Nat → Prop} {l : Launch} {r : Int} (v0 : Option Nat) (v1 : Int) (v2 : Int) (v3 : Int) (u : Sg) (hf : f20_on G v0 v1 v2 v3 u = some r) : JM kC (bC G A) A l yX20_on D20_on [pR v0, pI v1, pI v2, pI v3] u (some (pI r)) u 0 0 := by
  refine j_met (lv0 := [(0, pR v0), (1, pI v1), (2, pI v2), (3, pI v3)]) ⟨pl_X20, rfl, rfl, (Nat.le_of_ble_eq_true rfl), rfl⟩ ?_
  unfold f20_on at hf
  refine j_iconst dX20_on_0 ?_
  refine j_istore dX20_on_1 [(4, pI (-1)), (0, pR v0), (1, pI v1), (2, pI v2), (3, pI v3)] (Nat.le_of_ble_eq_true rfl) rfl ?_
  refine j_iconst dX20_on_3 ?_
  refine j_istore dX20_on_4 [(5, pI 0), (4, pI (-1)), (0, pR v0), (1, pI v1), (2, pI v2), (3, pI v3)] (Nat.le_of_ble_eq_true rfl) rfl ?_
  refine j_sub [2, 3, 4, 5, 1, 0] _ rfl (t20_on_l6 v0 v1 v2 v3 u ?_ NN (-1) 0 hf)
  · intro q1 hf
    refine j_iload dX20_on_134 1 rfl ?_
    refine j_if_ge (w32 q1) rfl 143 dX20_on_136 (by decide) (fun h4 => ?_) (fun h4 => ?_)
    · replace hf := it h4 hf
      refine j_aload_n dX20_on_143 0 rfl ?_
      obtain ⟨x2, hx2, hf⟩ := ob hf
      refine c_geta (ci := 20) (k := 1) hx2 zcl_20 (Nat.le_of_ble_eq_true rfl) zf_X20_15 fk_801 dX20_on_144 ?_
      refine j_iload dX20_on_147 1 rfl ?_
      obtain ⟨x3, hx3, hf⟩ := ob hf
      refine c_iald hx3 dX20_on_149 ?_
      replace hf := Option.some.inj hf
      subst hf
      exact j_ireturn (bC_mv G A) ⟨Nat.le_refl 0, Nat.le_refl 0⟩ rfl dX20_on_150
    · replace hf := ie h4 hf
      refine j_iconst dX20_on_139 ?_
      refine j_goto 150 dX20_on_140 (by decide) ?_
      replace hf := Option.some.inj hf
      subst hf
      exact j_ireturn (bC_mv G A) ⟨Nat.le_refl 0, Nat.le_refl 0⟩ rfl dX20_on_150
theorem t0_holds {G : CG} {A : Nat → Prop} {l : Launch} {r : Int} (v0 : Option Nat) (v1 : Int) (v2 : Int) (v3 : Int) (v4 : Int) (u : Sg) (hf : f0_holds G v0 v1 v2 v3 v4 u = some r) : JM kC (bC G A) A l yX0_holds D0_holds [pR v0, pI v1, pI v2, pI v3, pI v4] u (some (pI r)) u 0 0 := by
  refine j_met (lv0 := [(0, pR v0), (1, pI v1), (2, pI v2), (3, pI v3), (4, pI v4)]) ⟨pl_X0, rfl, rfl, (Nat.le_of_ble_eq_true rfl), rfl⟩ ?_
  unfold f0_holds at hf
  refine j_aload_n dX0_holds_0 0 rfl ?_
  refine j_iload_n dX0_holds_1 1 rfl ?_
  obtain ⟨b1, hb1, hf⟩ := ob hf
  obtain ⟨eb1, tb1⟩ := ztg_s hb1
  obtain ⟨x2, hx2, hf⟩ := ob hf
  refine a_Vr [pI v1] [] (t0_isPolicy (some b1) v1 u hx2) ⟨q1625, q1627, qs43, q128, q1628⟩ dv0_isPolicy rfl ⟨(Nat.le_of_ble_eq_true rfl), (Nat.le_of_ble_eq_true rfl)⟩ (c_recv zcl_0 tb1) (by rw [← eb1]; rfl) (Nat.le_of_ble_eq_true rfl) dX0_holds_2 ⟨Nat.le_refl 0, Nat.le_refl 0⟩ ?_
  refine j_if_eq (w32 x2) rfl 17 dX0_holds_5 (by decide) (fun h15 => ?_) (fun h15 => ?_)
  · replace hf := it h15 hf
    refine j_iconst dX0_holds_17 ?_
    replace hf := Option.some.inj hf
    subst hf
    exact j_ireturn (bC_mv G A) ⟨Nat.le_refl 0, Nat.le_refl 0⟩ rfl dX0_holds_18
  · replace hf := ie h15 hf
    refine j_iload_n dX0_holds_8 2 rfl ?_
    refine j_if_lt (w32 v2) rfl 17 dX0_holds_9 (by decide) (fun h14 => ?_) (fun h14 => ?_)
    · replace hf := it h14 hf
      refine j_iconst dX0_holds_17 ?_
      replace hf := Option.some.inj hf
      subst hf
      exact j_ireturn (bC_mv G A) ⟨Nat.le_refl 0, Nat.le_refl 0⟩ rfl dX0_holds_18
    · replace hf := ie h14 hf
      refine j_iload_n dX0_holds_12 2 rfl ?_
      refine j_iconst dX0_holds_13 ?_
      refine j_icmp_le (w32 v2) 2 rfl rfl 19 dX0_holds_14 (by decide) (fun h13 => ?_) (fun h13 => ?_)
      · replace hf := it h13 hf
        refine j_iload_n dX0_holds_19 3 rfl ?_
        obtain ⟨x3, hx3, hf⟩ := ob hf
        refine a_Sr [pI v3] [] (t0_isDay v3 u hx3) ⟨q1478, q1479, q128, q1480⟩ dv0_isDay rfl ⟨(Nat.le_of_ble_eq_true rfl), (Nat.le_of_ble_eq_true rfl)⟩ rfl (Nat.le_of_ble_eq_true rfl) dX0_holds_20 ⟨Nat.le_refl 0, Nat.le_refl 0⟩ ?_
        refine j_if_eq (w32 x3) rfl 59 dX0_holds_23 (by decide) (fun h12 => ?_) (fun h12 => ?_)
        · replace hf := it h12 hf
          refine j_bipush dX0_holds_59 (by decide) ?_
          replace hf := Option.some.inj hf
          subst hf
          exact j_ireturn (bC_mv G A) ⟨Nat.le_refl 0, Nat.le_refl 0⟩ rfl dX0_holds_61
        · replace hf := ie h12 hf
          refine j_iload dX0_holds_26 4 rfl ?_
          obtain ⟨x4, hx4, hf⟩ := ob hf
          refine a_Sr [pI v4] [] (t0_isDay v4 u hx4) ⟨q1478, q1479, q128, q1480⟩ dv0_isDay rfl ⟨(Nat.le_of_ble_eq_true rfl), (Nat.le_of_ble_eq_true rfl)⟩ rfl (Nat.le_of_ble_eq_true rfl) dX0_holds_28 ⟨Nat.le_refl 0, Nat.le_refl 0⟩ ?_
          refine j_if_eq (w32 x4) rfl 59 dX0_holds_31 (by decide) (fun h11 => ?_) (fun h11 => ?_)
          · replace hf := it h11 hf
            refine j_bipush dX0_holds_59 (by decide) ?_
            replace hf := Option.some.inj hf
            subst hf
            exact j_ireturn (bC_mv G A) ⟨Nat.le_refl 0, Nat.le_refl 0⟩ rfl dX0_holds_61
          · replace hf := ie h11 hf
            refine j_aload_n dX0_holds_34 0 rfl ?_
            obtain ⟨x5, hx5, hf⟩ := ob hf
            refine c_geta (ci := 0) (k := 7) hx5 zcl_0 (Nat.le_of_ble_eq_true rfl) zf_X0_89 fk_7 dX0_holds_35 ?_
            refine j_iload_n dX0_holds_38 1 rfl ?_
            refine j_iconst dX0_holds_39 ?_
            refine j_isub dX0_holds_40 ?_
            obtain ⟨b6, hb6, hf⟩ := ob hf
            obtain ⟨eb6, tb6⟩ := ztg_s hb6
            obtain ⟨x7, hx7, hf⟩ := ob hf
            refine a_Fr (x := ix_1) [pI (v1 - 1)] [] (tJ2_get (some b6) (v1 - 1) u hx7) ⟨q1273, q813, q815, q131, q817⟩ iF_1 df_1 rfl ⟨(Nat.le_of_ble_eq_true rfl), (Nat.le_of_ble_eq_true rfl)⟩ zcl_5 rfl tb6 (by rw [← eb6]; rfl) (Nat.le_of_ble_eq_true rfl) dX0_holds_41 ⟨Nat.le_refl 0, Nat.le_refl 0⟩ ?_
            obtain ⟨y8, hy8, hf⟩ := ob hf
            refine c_cast hy8 zok_Policy q1594 dX0_holds_46 ?_
            refine j_iload_n dX0_holds_49 2 rfl ?_
            refine j_iload_n dX0_holds_50 3 rfl ?_
            refine j_iload dX0_holds_51 4 rfl ?_
            obtain ⟨b9, hb9, hf⟩ := ob hf
            obtain ⟨eb9, tb9⟩ := ztg_s hb9
            obtain ⟨x10, hx10, hf⟩ := ob hf
            refine a_Vr [pI v2, pI v3, pI v4] [] (t20_on (some b9) v2 v3 v4 u hx10) ⟨q1634, q1635, q1636, q169, q1637⟩ dv20_on rfl ⟨(Nat.le_of_ble_eq_true rfl), (Nat.le_of_ble_eq_true rfl)⟩ (c_recv zcl_20 tb9) (by rw [← eb9]; rfl) (Nat.le_of_ble_eq_true rfl) dX0_holds_53 ⟨Nat.le_refl 0, Nat.le_refl 0⟩ ?_
            refine j_goto 61 dX0_holds_56 (by decide) ?_
            replace hf := Option.some.inj hf
            subst hf
            exact j_ireturn (bC_mv G A) ⟨Nat.le_refl 0, Nat.le_refl 0⟩ rfl dX0_holds_61
      · replace hf := ie h13 hf
        refine j_iconst dX0_holds_17 ?_
        replace hf := Option.some.inj hf
        subst hf
        exact j_ireturn (bC_mv G A) ⟨Nat.le_refl 0, Nat.le_refl 0⟩ rfl dX0_holds_18
theorem t21_init {G : CG} {A : Nat → Prop} {l : Launch} {r : Sg} {c0 n0 : Nat} (v0 : Option Nat) (v1 : Int) (v2 : Option Nat) (v3 : Int) (v4 : Int) (u : Sg) (hf : f21_init G v0 v1 v2 v3 v4 u = some (r, c0, n0)) : JM kC (bC G A) A l yX21_init D21_init [pR v0, pI v1, pR v2, pI v3, pI v4] u none r c0 n0 := by
  refine j_met (lv0 := [(0, pR v0), (1, pI v1), (2, pR v2), (3, pI v3), (4, pI v4)]) ⟨pl_X21, rfl, rfl, (Nat.le_of_ble_eq_true rfl), rfl⟩ ?_
  have hcs : 0 + c0 ≤ c0 ∧ 0 + n0 ≤ n0 := ⟨by omega, by omega⟩
  unfold f21_init at hf
  refine j_aload_n dX21_init_0 0 rfl ?_
  obtain ⟨b1, eb1, hg⟩ := ob hf
  clear hf
  subst eb1
  have hf := hg
  clear hg
  refine c_objInit q1647 q177 q178 (Nat.le_of_ble_eq_true rfl) (Nat.le_of_ble_eq_true rfl) (Nat.le_of_ble_eq_true rfl) dX21_init_1 ?_
  refine j_aload_n dX21_init_4 0 rfl ?_
  obtain ⟨q2, kq2, mq2, k_q2, m_q2, hq2, hf, hkq2, hmq2⟩ := bdU_s hf
  obtain ⟨hczq2, hcs⟩ := hcs_step hcs hkq2 hmq2
  refine c_new (ci := 19) hq2 zcl_19 zmk_19 q1648 dX21_init_5 hczq2 ?_
  refine j_dup dX21_init_8 rfl ?_
  refine j_bipush dX21_init_9 (by decide) ?_
  obtain ⟨q3, kq3, mq3, k_q3, m_q3, hq3, hf, hkq3, hmq3⟩ := bdU_s hf
  obtain ⟨hczq3, hcs⟩ := hcs_step hcs hkq3 hmq3
  refine c_callI [pI 6] [pR (some q2.1), pR (some b1)] _ (t19_init (some q2.1) 6 q2.2 hq3) ⟨q1649, q1436, q167, q1437, rfl, rfl⟩ dv19_init rfl ⟨(Nat.le_of_ble_eq_true rfl), (Nat.le_of_ble_eq_true rfl)⟩ rfl (Nat.le_of_ble_eq_true rfl) dX21_init_11 hczq3 ?_
  obtain ⟨u4, hu4, hf⟩ := ob hf
  refine c_putaF (ci := 21) (k := 4) hu4 zcl_21 (Nat.le_of_ble_eq_true rfl) zf_X21_12 fk_844 rfl rfl rfl fits_O dX21_init_14 ?_
  refine j_aload_n dX21_init_17 0 rfl ?_
  refine j_iload_n dX21_init_18 1 rfl ?_
  obtain ⟨u5, hu5, hf⟩ := ob hf
  refine c_putiF (ci := 21) (k := 0) hu5 zcl_21 (Nat.le_of_ble_eq_true rfl) zf_X21_18 fk_840 rfl rfl rfl fits_I dX21_init_19 ?_
  refine j_aload_n dX21_init_22 0 rfl ?_
  refine j_aload_n dX21_init_23 2 rfl ?_
  obtain ⟨u6, hu6, hf⟩ := ob hf
  refine c_putaF (ci := 21) (k := 1) hu6 zcl_21 (Nat.le_of_ble_eq_true rfl) zf_X21_22 fk_841 rfl rfl rfl fits_O dX21_init_24 ?_
  refine j_aload_n dX21_init_27 0 rfl ?_
  refine j_iload_n dX21_init_28 3 rfl ?_
  obtain ⟨u7, hu7, hf⟩ := ob hf
  refine c_putiF (ci := 21) (k := 2) hu7 zcl_21 (Nat.le_of_ble_eq_true rfl) zf_X21_26 fk_842 rfl rfl rfl fits_I dX21_init_29 ?_
  refine j_aload_n dX21_init_32 0 rfl ?_
  refine j_iload dX21_init_33 4 rfl ?_
  obtain ⟨u8, hu8, hf⟩ := ob hf
  refine c_putiF (ci := 21) (k := 3) hu8 zcl_21 (Nat.le_of_ble_eq_true rfl) zf_X21_29 fk_843 rfl rfl rfl fits_I dX21_init_35 ?_
  replace hf := retU hf
  subst hf
  exact j_return (bC_mv G A) (hcs_ret (x := ()) (r := ()) hcs) rfl dX21_init_38
theorem t0_claim {G : CG} {A : Nat → Prop} {l : Launch} {r : Int × Sg} {c0 n0 : Nat} (v0 : Option Nat) (v1 : Int) (v2 : Int) (v3 : Int) (v4 : Int) (u : Sg) (hf : f0_claim G v0 v1 v2 v3 v4 u = some (r, c0, n0)) : JM kC (bC G A) A l yX0_claim D0_claim [pR v0, pI v1, pI v2, pI v3, pI v4] u (some (pI r.1)) r.2 c0 n0 := by
  refine j_met (lv0 := [(0, pR v0), (1, pI v1), (2, pI v2), (3, pI v3), (4, pI v4)]) ⟨pl_X0, rfl, rfl, (Nat.le_of_ble_eq_true rfl), rfl⟩ ?_
  have hcs : 0 + c0 ≤ c0 ∧ 0 + n0 ≤ n0 := ⟨by omega, by omega⟩
  unfold f0_claim at hf
  refine j_aload_n dX0_claim_0 0 rfl ?_
  refine j_iload_n dX0_claim_1 1 rfl ?_
  obtain ⟨b1, hb1, hf⟩ := ob hf
  obtain ⟨eb1, tb1⟩ := ztg_s hb1
  obtain ⟨x2, hx2, hf⟩ := ob hf
  refine a_Vr [pI v1] [] (t0_isPolicy (some b1) v1 u hx2) ⟨q1625, q1627, qs43, q128, q1628⟩ dv0_isPolicy rfl ⟨(Nat.le_of_ble_eq_true rfl), (Nat.le_of_ble_eq_true rfl)⟩ (c_recv zcl_0 tb1) (by rw [← eb1]; rfl) (Nat.le_of_ble_eq_true rfl) dX0_claim_2 (hcs_ret (x := ()) (r := ()) hcs) ?_
  refine j_if_eq (w32 x2) rfl 16 dX0_claim_5 (by decide) (fun h26 => ?_) (fun h26 => ?_)
  · replace hf := it h26 hf
    refine j_iconst dX0_claim_16 ?_
    replace hf := retU hf
    subst hf
    exact j_ireturn (bC_mv G A) (hcs_ret (x := ()) (r := ()) hcs) rfl dX0_claim_17
  · replace hf := ie h26 hf
    refine j_aload_n dX0_claim_8 0 rfl ?_
    refine j_iload_n dX0_claim_9 2 rfl ?_
    obtain ⟨b3, hb3, hf⟩ := ob hf
    obtain ⟨eb3, tb3⟩ := ztg_s hb3
    obtain ⟨x4, hx4, hf⟩ := ob hf
    refine a_Vr [pI v2] [] (t0_isEvent (some b3) v2 u hx4) ⟨q1470, q1472, qs40, q128, q1473⟩ dv0_isEvent rfl ⟨(Nat.le_of_ble_eq_true rfl), (Nat.le_of_ble_eq_true rfl)⟩ (c_recv zcl_0 tb3) (by rw [← eb3]; rfl) (Nat.le_of_ble_eq_true rfl) dX0_claim_10 (hcs_ret (x := ()) (r := ()) hcs) ?_
    refine j_if_ne (w32 x4) rfl 18 dX0_claim_13 (by decide) (fun h25 => ?_) (fun h25 => ?_)
    · replace hf := ie h25 hf
      refine j_iload_n dX0_claim_18 3 rfl ?_
      obtain ⟨x5, hx5, hf⟩ := ob hf
      refine a_Sr [pI v3] [] (t0_isDay v3 u hx5) ⟨q1478, q1479, q128, q1480⟩ dv0_isDay rfl ⟨(Nat.le_of_ble_eq_true rfl), (Nat.le_of_ble_eq_true rfl)⟩ rfl (Nat.le_of_ble_eq_true rfl) dX0_claim_19 (hcs_ret (x := ()) (r := ()) hcs) ?_
      refine j_if_eq (w32 x5) rfl 33 dX0_claim_22 (by decide) (fun h24 => ?_) (fun h24 => ?_)
      · replace hf := it h24 hf
        refine j_bipush dX0_claim_33 (by decide) ?_
        replace hf := retU hf
        subst hf
        exact j_ireturn (bC_mv G A) (hcs_ret (x := ()) (r := ()) hcs) rfl dX0_claim_35
      · replace hf := ie h24 hf
        refine j_iload dX0_claim_25 4 rfl ?_
        obtain ⟨x6, hx6, hf⟩ := ob hf
        refine a_Sr [pI v4] [] (t0_isDay v4 u hx6) ⟨q1478, q1479, q128, q1480⟩ dv0_isDay rfl ⟨(Nat.le_of_ble_eq_true rfl), (Nat.le_of_ble_eq_true rfl)⟩ rfl (Nat.le_of_ble_eq_true rfl) dX0_claim_27 (hcs_ret (x := ()) (r := ()) hcs) ?_
        refine j_if_ne (w32 x6) rfl 36 dX0_claim_30 (by decide) (fun h23 => ?_) (fun h23 => ?_)
        · replace hf := ie h23 hf
          refine j_aload_n dX0_claim_36 0 rfl ?_
          obtain ⟨x7, hx7, hf⟩ := ob hf
          refine c_geta (ci := 0) (k := 8) hx7 zcl_0 (Nat.le_of_ble_eq_true rfl) zf_X0_92 fk_8 dX0_claim_37 ?_
          obtain ⟨b8, hb8, hf⟩ := ob hf
          obtain ⟨eb8, tb8⟩ := ztg_s hb8
          obtain ⟨x9, hx9, hf⟩ := ob hf
          refine a_Fr (x := ix_0) [] [] (tJ2_size (some b8) u hx9) ⟨q556, q559, q561, q131, q563⟩ iF_0 df_0 rfl ⟨(Nat.le_of_ble_eq_true rfl), (Nat.le_of_ble_eq_true rfl)⟩ zcl_5 rfl tb8 (by rw [← eb8]; rfl) (Nat.le_of_ble_eq_true rfl) dX0_claim_40 (hcs_ret (x := ()) (r := ()) hcs) ?_
          refine j_bipush dX0_claim_45 (by decide) ?_
          refine j_icmp_ne (w32 x9) 40 rfl rfl 53 dX0_claim_47 (by decide) (fun h22 => ?_) (fun h22 => ?_)
          · replace hf := ie h22 hf
            refine j_aload_n dX0_claim_53 0 rfl ?_
            obtain ⟨x10, hx10, hf⟩ := ob hf
            refine c_geta (ci := 0) (k := 8) hx10 zcl_0 (Nat.le_of_ble_eq_true rfl) zf_X0_92 fk_8 dX0_claim_54 ?_
            obtain ⟨q11, kq11, mq11, k_q11, m_q11, hq11, hf, hkq11, hmq11⟩ := bdU_s hf
            obtain ⟨hczq11, hcs⟩ := hcs_step hcs hkq11 hmq11
            refine c_new (ci := 21) hq11 zcl_21 zmk_21 q1642 dX0_claim_57 hczq11 ?_
            refine j_dup dX0_claim_60 rfl ?_
            refine j_iload_n dX0_claim_61 1 rfl ?_
            refine j_aload_n dX0_claim_62 0 rfl ?_
            obtain ⟨x12, hx12, hf⟩ := ob hf
            refine c_geta (ci := 0) (k := 6) hx12 zcl_0 (Nat.le_of_ble_eq_true rfl) zf_X0_86 fk_6 dX0_claim_63 ?_
            refine j_iload_n dX0_claim_66 2 rfl ?_
            refine j_iconst dX0_claim_67 ?_
            refine j_isub dX0_claim_68 ?_
            obtain ⟨b13, hb13, hf⟩ := ob hf
            obtain ⟨eb13, tb13⟩ := ztg_s hb13
            obtain ⟨x14, hx14, hf⟩ := ob hf
            refine a_Fr (x := ix_1) [pI (v2 - 1)] [pI v1, pR (some q11.1), pR (some q11.1), pR x10] (tJ2_get (some b13) (v2 - 1) q11.2 hx14) ⟨q1273, q813, q815, q131, q817⟩ iF_1 df_1 rfl ⟨(Nat.le_of_ble_eq_true rfl), (Nat.le_of_ble_eq_true rfl)⟩ zcl_5 rfl tb13 (by rw [← eb13]; rfl) (Nat.le_of_ble_eq_true rfl) dX0_claim_69 (hcs_ret (x := ()) (r := ()) hcs) ?_
            obtain ⟨y15, hy15, hf⟩ := ob hf
            refine c_cast hy15 zok_Event q1423 dX0_claim_74 ?_
            refine j_iload_n dX0_claim_77 3 rfl ?_
            refine j_iload dX0_claim_78 4 rfl ?_
            obtain ⟨q16, kq16, mq16, k_q16, m_q16, hq16, hf, hkq16, hmq16⟩ := bdU_s hf
            obtain ⟨hczq16, hcs⟩ := hcs_step hcs hkq16 hmq16
            refine c_callI [pI v1, pR x14, pI v3, pI v4] [pR (some q11.1), pR x10] _ (t21_init (some q11.1) v1 x14 v3 v4 q11.2 hq16) ⟨q1644, q1645, q170, q1646, rfl, rfl⟩ dv21_init rfl ⟨(Nat.le_of_ble_eq_true rfl), (Nat.le_of_ble_eq_true rfl)⟩ rfl (Nat.le_of_ble_eq_true rfl) dX0_claim_80 hczq16 ?_
            obtain ⟨b17, hb17, hf⟩ := ob hf
            obtain ⟨eb17, tb17⟩ := ztg_s hb17
            obtain ⟨q18, kq18, mq18, k_q18, m_q18, hq18, hf, hkq18, hmq18⟩ := bdU_s hf
            obtain ⟨hczq18, hcs⟩ := hcs_step hcs hkq18 hmq18
            refine a_Fr (x := ix_2) [pR (some q11.1)] [] (tJ2_add (some b17) (some q11.1) q16 hq18) ⟨q1255, q325, q327, q131, q329⟩ iF_2 df_2 rfl ⟨(Nat.le_of_ble_eq_true rfl), (Nat.le_of_ble_eq_true rfl)⟩ zcl_5 rfl tb17 (by rw [← eb17]; rfl) (Nat.le_of_ble_eq_true rfl) dX0_claim_83 hczq18 ?_
            refine j_pop dX0_claim_88 rfl ?_
            refine j_aload_n dX0_claim_89 0 rfl ?_
            obtain ⟨x19, hx19, hf⟩ := ob hf
            refine c_geta (ci := 0) (k := 8) hx19 zcl_0 (Nat.le_of_ble_eq_true rfl) zf_X0_92 fk_8 dX0_claim_90 ?_
            obtain ⟨b20, hb20, hf⟩ := ob hf
            obtain ⟨eb20, tb20⟩ := ztg_s hb20
            obtain ⟨x21, hx21, hf⟩ := ob hf
            refine a_Fr (x := ix_0) [] [] (tJ2_size (some b20) q18.2 hx21) ⟨q556, q559, q561, q131, q563⟩ iF_0 df_0 rfl ⟨(Nat.le_of_ble_eq_true rfl), (Nat.le_of_ble_eq_true rfl)⟩ zcl_5 rfl tb20 (by rw [← eb20]; rfl) (Nat.le_of_ble_eq_true rfl) dX0_claim_93 (hcs_ret (x := ()) (r := ()) hcs) ?_
            replace hf := retU hf
            subst hf
            exact j_ireturn (bC_mv G A) (hcs_ret (x := ()) (r := ()) hcs) rfl dX0_claim_98
          · replace hf := it h22 hf
            refine j_bipush dX0_claim_50 (by decide) ?_
            replace hf := retU hf
            subst hf
            exact j_ireturn (bC_mv G A) (hcs_ret (x := ()) (r := ()) hcs) rfl dX0_claim_52
        · replace hf := it h23 hf
          refine j_bipush dX0_claim_33 (by decide) ?_
          replace hf := retU hf
          subst hf
          exact j_ireturn (bC_mv G A) (hcs_ret (x := ()) (r := ()) hcs) rfl dX0_claim_35
    · replace hf := it h25 hf
      refine j_iconst dX0_claim_16 ?_
      replace hf := retU hf
      subst hf
      exact j_ireturn (bC_mv G A) (hcs_ret (x := ()) (r := ()) hcs) rfl dX0_claim_17
theorem t0_isClaim {G : CG} {A : Nat → Prop} {l : Launch} {r : Int} (v0 : Option Nat) (v1 : Int) (u : Sg) (hf : f0_isClaim G v0 v1 u = some r) : JM kC (bC G A) A l yX0_isClaim D0_isClaim [pR v0, pI v1] u (some (pI r)) u 0 0 := by
  refine j_met (lv0 := [(0, pR v0), (1, pI v1)]) ⟨pl_X0, rfl, rfl, (Nat.le_of_ble_eq_true rfl), rfl⟩ ?_
  unfold f0_isClaim at hf
  refine j_iload_n dX0_isClaim_0 1 rfl ?_
  refine j_if_le (w32 v1) rfl 21 dX0_isClaim_1 (by decide) (fun h5 => ?_) (fun h5 => ?_)
  · replace hf := it h5 hf
    refine j_iconst dX0_isClaim_21 ?_
    replace hf := Option.some.inj hf
    subst hf
    exact j_zreturn (x := 0) (bC_mv G A) ⟨Nat.le_refl 0, Nat.le_refl 0⟩ (ty := .boolean) rfl (nar_z (Or.inl rfl)) dX0_isClaim_22
  · replace hf := ie h5 hf
    refine j_iload_n dX0_isClaim_4 1 rfl ?_
    refine j_aload_n dX0_isClaim_5 0 rfl ?_
    obtain ⟨x1, hx1, hf⟩ := ob hf
    refine c_geta (ci := 0) (k := 8) hx1 zcl_0 (Nat.le_of_ble_eq_true rfl) zf_X0_92 fk_8 dX0_isClaim_6 ?_
    obtain ⟨b2, hb2, hf⟩ := ob hf
    obtain ⟨eb2, tb2⟩ := ztg_s hb2
    obtain ⟨x3, hx3, hf⟩ := ob hf
    refine a_Fr (x := ix_0) [] [pI v1] (tJ2_size (some b2) u hx3) ⟨q556, q559, q561, q131, q563⟩ iF_0 df_0 rfl ⟨(Nat.le_of_ble_eq_true rfl), (Nat.le_of_ble_eq_true rfl)⟩ zcl_5 rfl tb2 (by rw [← eb2]; rfl) (Nat.le_of_ble_eq_true rfl) dX0_isClaim_9 ⟨Nat.le_refl 0, Nat.le_refl 0⟩ ?_
    refine j_icmp_gt (w32 v1) (w32 x3) rfl rfl 21 dX0_isClaim_14 (by decide) (fun h4 => ?_) (fun h4 => ?_)
    · replace hf := it h4 hf
      refine j_iconst dX0_isClaim_21 ?_
      replace hf := Option.some.inj hf
      subst hf
      exact j_zreturn (x := 0) (bC_mv G A) ⟨Nat.le_refl 0, Nat.le_refl 0⟩ (ty := .boolean) rfl (nar_z (Or.inl rfl)) dX0_isClaim_22
    · replace hf := ie h4 hf
      refine j_iconst dX0_isClaim_17 ?_
      refine j_goto 22 dX0_isClaim_18 (by decide) ?_
      replace hf := Option.some.inj hf
      subst hf
      exact j_zreturn (x := 1) (bC_mv G A) ⟨Nat.le_refl 0, Nat.le_refl 0⟩ (ty := .boolean) rfl (nar_z (Or.inr rfl)) dX0_isClaim_22
theorem t0_loss {G : CG} {A : Nat → Prop} {l : Launch} {r : Int × Sg} (v0 : Option Nat) (v1 : Int) (v2 : Int) (v3 : Int) (u : Sg) (hf : f0_loss G v0 v1 v2 v3 u = some r) : JM kC (bC G A) A l yX0_loss D0_loss [pR v0, pI v1, pI v2, pI v3] u (some (pI r.1)) r.2 0 0 := by
  refine j_met (lv0 := [(0, pR v0), (1, pI v1), (2, pI v2), (3, pI v3)]) ⟨pl_X0, rfl, rfl, (Nat.le_of_ble_eq_true rfl), rfl⟩ ?_
  unfold f0_loss at hf
  refine j_aload_n dX0_loss_0 0 rfl ?_
  refine j_iload_n dX0_loss_1 1 rfl ?_
  obtain ⟨b1, hb1, hf⟩ := ob hf
  obtain ⟨eb1, tb1⟩ := ztg_s hb1
  obtain ⟨x2, hx2, hf⟩ := ob hf
  refine a_Vr [pI v1] [] (t0_isClaim (some b1) v1 u hx2) ⟨q1681, q1683, qs44, q128, q1684⟩ dv0_isClaim rfl ⟨(Nat.le_of_ble_eq_true rfl), (Nat.le_of_ble_eq_true rfl)⟩ (c_recv zcl_0 tb1) (by rw [← eb1]; rfl) (Nat.le_of_ble_eq_true rfl) dX0_loss_2 ⟨Nat.le_refl 0, Nat.le_refl 0⟩ ?_
  refine j_if_ne (w32 x2) rfl 10 dX0_loss_5 (by decide) (fun h17 => ?_) (fun h17 => ?_)
  · replace hf := ie h17 hf
    refine j_iload_n dX0_loss_10 2 rfl ?_
    refine j_if_lt (w32 v2) rfl 28 dX0_loss_11 (by decide) (fun h16 => ?_) (fun h16 => ?_)
    · replace hf := it h16 hf
      refine j_bipush dX0_loss_28 (by decide) ?_
      replace hf := Option.some.inj hf
      subst hf
      exact j_ireturn (bC_mv G A) ⟨Nat.le_refl 0, Nat.le_refl 0⟩ rfl dX0_loss_30
    · replace hf := ie h16 hf
      refine j_iload_n dX0_loss_14 2 rfl ?_
      refine j_ldcw (z := 99999999) q1629 (by decide) dX0_loss_15 ?_
      refine j_icmp_gt (w32 v2) 99999999 rfl rfl 28 dX0_loss_18 (by decide) (fun h15 => ?_) (fun h15 => ?_)
      · replace hf := it h15 hf
        refine j_bipush dX0_loss_28 (by decide) ?_
        replace hf := Option.some.inj hf
        subst hf
        exact j_ireturn (bC_mv G A) ⟨Nat.le_refl 0, Nat.le_refl 0⟩ rfl dX0_loss_30
      · replace hf := ie h15 hf
        refine j_iload_n dX0_loss_21 3 rfl ?_
        obtain ⟨x3, hx3, hf⟩ := ob hf
        refine a_Sr [pI v3] [] (t0_isDay v3 u hx3) ⟨q1478, q1479, q128, q1480⟩ dv0_isDay rfl ⟨(Nat.le_of_ble_eq_true rfl), (Nat.le_of_ble_eq_true rfl)⟩ rfl (Nat.le_of_ble_eq_true rfl) dX0_loss_22 ⟨Nat.le_refl 0, Nat.le_refl 0⟩ ?_
        refine j_if_ne (w32 x3) rfl 31 dX0_loss_25 (by decide) (fun h14 => ?_) (fun h14 => ?_)
        · replace hf := ie h14 hf
          refine j_aload_n dX0_loss_31 0 rfl ?_
          obtain ⟨x4, hx4, hf⟩ := ob hf
          refine c_geta (ci := 0) (k := 8) hx4 zcl_0 (Nat.le_of_ble_eq_true rfl) zf_X0_92 fk_8 dX0_loss_32 ?_
          refine j_iload_n dX0_loss_35 1 rfl ?_
          refine j_iconst dX0_loss_36 ?_
          refine j_isub dX0_loss_37 ?_
          obtain ⟨b5, hb5, hf⟩ := ob hf
          obtain ⟨eb5, tb5⟩ := ztg_s hb5
          obtain ⟨x6, hx6, hf⟩ := ob hf
          refine a_Fr (x := ix_1) [pI (v1 - 1)] [] (tJ2_get (some b5) (v1 - 1) u hx6) ⟨q1273, q813, q815, q131, q817⟩ iF_1 df_1 rfl ⟨(Nat.le_of_ble_eq_true rfl), (Nat.le_of_ble_eq_true rfl)⟩ zcl_5 rfl tb5 (by rw [← eb5]; rfl) (Nat.le_of_ble_eq_true rfl) dX0_loss_38 ⟨Nat.le_refl 0, Nat.le_refl 0⟩ ?_
          obtain ⟨y7, hy7, hf⟩ := ob hf
          refine c_cast hy7 zok_Claim q1642 dX0_loss_43 ?_
          obtain ⟨x8, hx8, hf⟩ := ob hf
          refine c_getaN (ci := 21) (k := 4) hx8 zcl_21 (Nat.le_of_ble_eq_true rfl) zf_X0_448 fk_844 dX0_loss_46 ?_
          refine j_astore dX0_loss_49 [(4, pR x8), (0, pR v0), (1, pI v1), (2, pI v2), (3, pI v3)] (Nat.le_of_ble_eq_true rfl) rfl ?_
          refine j_aload dX0_loss_51 0 rfl ?_
          obtain ⟨x9, hx9, hf⟩ := ob hf
          refine c_getiN (ci := 19) (k := 2) hx9 zcl_19 (Nat.le_of_ble_eq_true rfl) zf_X0_348 fk_762 dX0_loss_53 ?_
          refine j_bipush dX0_loss_56 (by decide) ?_
          refine j_icmp_ne (w32 x9) 6 rfl rfl 64 dX0_loss_58 (by decide) (fun h13 => ?_) (fun h13 => ?_)
          · replace hf := ie h13 hf
            refine j_aload dX0_loss_64 0 rfl ?_
            refine j_iload_n dX0_loss_66 3 rfl ?_
            refine j_iload_n dX0_loss_67 4 rfl ?_
            obtain ⟨b10, hb10, hf⟩ := ob hf
            obtain ⟨eb10, tb10⟩ := ztg_s hb10
            obtain ⟨u11, hu11, hf⟩ := ob hf
            refine a_Vv [pI v2, pI v3] [] (t19_add (some b10) v2 v3 u hu11) ⟨q1482, q1483, q1484, q167, q1485⟩ dv19_add rfl ⟨(Nat.le_of_ble_eq_true rfl), (Nat.le_of_ble_eq_true rfl)⟩ (c_recv zcl_19 tb10) (by rw [← eb10]; rfl) (Nat.le_of_ble_eq_true rfl) dX0_loss_68 ⟨Nat.le_refl 0, Nat.le_refl 0⟩ ?_
            refine j_aload dX0_loss_71 0 rfl ?_
            obtain ⟨x12, hx12, hf⟩ := ob hf
            refine c_getiN (ci := 19) (k := 2) hx12 zcl_19 (Nat.le_of_ble_eq_true rfl) zf_X0_348 fk_762 dX0_loss_73 ?_
            replace hf := Option.some.inj hf
            subst hf
            exact j_ireturn (bC_mv G A) ⟨Nat.le_refl 0, Nat.le_refl 0⟩ rfl dX0_loss_76
          · replace hf := it h13 hf
            refine j_bipush dX0_loss_61 (by decide) ?_
            replace hf := Option.some.inj hf
            subst hf
            exact j_ireturn (bC_mv G A) ⟨Nat.le_refl 0, Nat.le_refl 0⟩ rfl dX0_loss_63
        · replace hf := it h14 hf
          refine j_bipush dX0_loss_28 (by decide) ?_
          replace hf := Option.some.inj hf
          subst hf
          exact j_ireturn (bC_mv G A) ⟨Nat.le_refl 0, Nat.le_refl 0⟩ rfl dX0_loss_30
  · replace hf := it h17 hf
    refine j_iconst dX0_loss_8 ?_
    replace hf := Option.some.inj hf
    subst hf
    exact j_ireturn (bC_mv G A) ⟨Nat.le_refl 0, Nat.le_refl 0⟩ rfl dX0_loss_9
theorem t0_walk_l62 {G : CG} {A : Nat → Prop} {l : Launch} {a : List PV} {r : Int × Sg} {Kf : Int × Sg → Option (Int × Sg)} (v0 : Option Nat) (v1 : Int) (v2 : Int) (v3 : Int) (v4 : Int) (v5 : Option Nat) (hK0 : ∀ q : Int × Sg, Kf q = some r → JW kC (bC G A) A l D0_walk a (jQ (bC G A) A a (some (pI r.1)) r.2 0 0) 0 0 q.2 0 0 121 [(0, pR v0), (1, pI v1), (2, pI v2), (3, pI v3), (4, pI v4), (6, pI q.1)] []) : ∀ (n : Nat) (v6 : Int) (u : Sg), ((f0_walk_l62 G v0 v1 v2 v3 v4 v5 n v6 u).bind Kf = some r) → JW kC (bC G A) A l D0_walk a (jQ (bC G A) A a (some (pI r.1)) r.2 0 0) 0 0 u 0 0 62 [(0, pR v0), (1, pI v1), (2, pI v2), (3, pI v3), (4, pI v4), (5, pR v5), (6, pI v6)] [] := by
  intro n
  induction n with
  | zero => intro v6 u hf; exact onb hf
  | succ n ih =>
    intro v6 u hf
    unfold f0_walk_l62 at hf
    refine j_iload dX0_walk_62 6 rfl ?_
    refine j_if_le (w32 v6) rfl 121 dX0_walk_64 (by decide) (fun h14 => ?_) (fun h14 => ?_)
    · replace hf := itb h14 hf
      exact j_sub [0, 1, 2, 3, 4, 6] _ rfl (hK0 (v6, u) hf)
    · replace hf := ieb h14 hf
      refine j_aload_n dX0_walk_67 0 rfl ?_
      obtain ⟨x1, hx1, hf⟩ := obb hf
      refine c_geta (ci := 0) (k := 8) hx1 zcl_0 (Nat.le_of_ble_eq_true rfl) zf_X0_92 fk_8 dX0_walk_68 ?_
      refine j_aload_n dX0_walk_71 0 rfl ?_
      obtain ⟨x2, hx2, hf⟩ := obb hf
      refine c_geta (ci := 0) (k := 17) hx2 zcl_0 (Nat.le_of_ble_eq_true rfl) zf_X0_131 fk_17 dX0_walk_72 ?_
      refine j_iload dX0_walk_75 6 rfl ?_
      refine j_iconst dX0_walk_77 ?_
      refine j_isub dX0_walk_78 ?_
      obtain ⟨x3, hx3, hf⟩ := obb hf
      refine c_iald hx3 dX0_walk_79 ?_
      obtain ⟨b4, hb4, hf⟩ := obb hf
      obtain ⟨eb4, tb4⟩ := ztg_s hb4
      obtain ⟨x5, hx5, hf⟩ := obb hf
      refine a_Fr (x := ix_1) [pI x3] [] (tJ2_get (some b4) x3 u hx5) ⟨q1273, q813, q815, q131, q817⟩ iF_1 df_1 rfl ⟨(Nat.le_of_ble_eq_true rfl), (Nat.le_of_ble_eq_true rfl)⟩ zcl_5 rfl tb4 (by rw [← eb4]; rfl) (Nat.le_of_ble_eq_true rfl) dX0_walk_80 ⟨Nat.le_refl 0, Nat.le_refl 0⟩ ?_
      obtain ⟨y6, hy6, hf⟩ := obb hf
      refine c_cast hy6 zok_Claim q1642 dX0_walk_85 ?_
      obtain ⟨x7, hx7, hf⟩ := obb hf
      refine c_getiN (ci := 21) (k := 2) hx7 zcl_21 (Nat.le_of_ble_eq_true rfl) zf_X0_456 fk_842 dX0_walk_88 ?_
      refine j_aload dX0_walk_91 5 rfl ?_
      obtain ⟨x8, hx8, hf⟩ := obb hf
      refine c_getiN (ci := 21) (k := 2) hx8 zcl_21 (Nat.le_of_ble_eq_true rfl) zf_X0_456 fk_842 dX0_walk_93 ?_
      refine j_icmp_le (w32 x7) (w32 x8) rfl rfl 121 dX0_walk_96 (by decide) (fun h13 => ?_) (fun h13 => ?_)
      · replace hf := itb h13 hf
        exact j_sub [0, 1, 2, 3, 4, 6] _ rfl (hK0 (v6, u) hf)
      · replace hf := ieb h13 hf
        refine j_aload_n dX0_walk_99 0 rfl ?_
        obtain ⟨x9, hx9, hf⟩ := obb hf
        refine c_geta (ci := 0) (k := 17) hx9 zcl_0 (Nat.le_of_ble_eq_true rfl) zf_X0_131 fk_17 dX0_walk_100 ?_
        refine j_iload dX0_walk_103 6 rfl ?_
        refine j_aload_n dX0_walk_105 0 rfl ?_
        obtain ⟨x10, hx10, hf⟩ := obb hf
        refine c_geta (ci := 0) (k := 17) hx10 zcl_0 (Nat.le_of_ble_eq_true rfl) zf_X0_131 fk_17 dX0_walk_106 ?_
        refine j_iload dX0_walk_109 6 rfl ?_
        refine j_iconst dX0_walk_111 ?_
        refine j_isub dX0_walk_112 ?_
        obtain ⟨x11, hx11, hf⟩ := obb hf
        refine c_iald hx11 dX0_walk_113 ?_
        obtain ⟨u12, hu12, hf⟩ := obb hf
        refine c_iast hu12 dX0_walk_114 ?_
        refine j_iinc dX0_walk_115 6 rfl [(6, pI (v6 + (-1))), (0, pR v0), (1, pI v1), (2, pI v2), (3, pI v3), (4, pI v4), (5, pR v5)] (Nat.le_of_ble_eq_true rfl) rfl ?_
        refine j_goto 62 dX0_walk_118 (by decide) ?_
        exact j_sub [1, 2, 3, 4, 5, 6, 0] _ rfl (ih (v6 + (-1)) u12 hf)
theorem t0_walk_b121 {G : CG} {A : Nat → Prop} {l : Launch} {a : List PV} {r : Int × Sg} {Kf : Int × Sg → Option (Int × Sg)} {v0 : Option Nat} {v1 : Int} {v2 : Int} (kh : Int → Int → Sg → Option (Int × Sg)) (hkh : ∀ (z3 : Int) (z4 : Int) (zu : Sg), ((kh z3 z4 zu).bind Kf = some r) → JW kC (bC G A) A l D0_walk a (jQ (bC G A) A a (some (pI r.1)) r.2 0 0) 0 0 zu 0 0 5 [(0, pR v0), (1, pI v1), (2, pI v2), (3, pI z3), (4, pI z4)] []) (hK0 : ∀ q : Int × Sg, Kf q = some r → JW kC (bC G A) A l D0_walk a (jQ (bC G A) A a (some (pI r.1)) r.2 0 0) 0 0 q.2 0 0 136 [(3, pI q.1)] []) (v3 : Int) (v4 : Int) (v6 : Int) (u : Sg) (hf : (f0_walk_b121 G kh v0 v1 v2 v3 v4 v6 u).bind Kf = some r) : JW kC (bC G A) A l D0_walk a (jQ (bC G A) A a (some (pI r.1)) r.2 0 0) 0 0 u 0 0 121 [(0, pR v0), (1, pI v1), (2, pI v2), (3, pI v3), (4, pI v4), (6, pI v6)] [] := by
  unfold f0_walk_b121 at hf
  refine j_aload_n dX0_walk_121 0 rfl ?_
  obtain ⟨x1, hx1, hf⟩ := obb hf
  refine c_geta (ci := 0) (k := 17) hx1 zcl_0 (Nat.le_of_ble_eq_true rfl) zf_X0_131 fk_17 dX0_walk_122 ?_
  refine j_iload dX0_walk_125 5 rfl ?_
  refine j_iload dX0_walk_127 4 rfl ?_
  obtain ⟨u2, hu2, hf⟩ := obb hf
  refine c_iast hu2 dX0_walk_129 ?_
  refine j_iinc dX0_walk_130 4 rfl [(4, pI (v4 + 1)), (0, pR v0), (1, pI v1), (2, pI v2), (3, pI v3), (6, pI v6)] (Nat.le_of_ble_eq_true rfl) rfl ?_
  refine j_goto 5 dX0_walk_133 (by decide) ?_
  exact j_sub [1, 2, 3, 4, 0] _ rfl (hkh v3 (v4 + 1) u2 hf)
theorem t0_walk_l5 {G : CG} {A : Nat → Prop} {l : Launch} {a : List PV} {r : Int × Sg} {Kf : Int × Sg → Option (Int × Sg)} (v0 : Option Nat) (v1 : Int) (v2 : Int) (hK0 : ∀ q : Int × Sg, Kf q = some r → JW kC (bC G A) A l D0_walk a (jQ (bC G A) A a (some (pI r.1)) r.2 0 0) 0 0 q.2 0 0 136 [(3, pI q.1)] []) : ∀ (n : Nat) (v3 : Int) (v4 : Int) (u : Sg), ((f0_walk_l5 G v0 v1 v2 n v3 v4 u).bind Kf = some r) → JW kC (bC G A) A l D0_walk a (jQ (bC G A) A a (some (pI r.1)) r.2 0 0) 0 0 u 0 0 5 [(0, pR v0), (1, pI v1), (2, pI v2), (3, pI v3), (4, pI v4)] [] := by
  intro n
  induction n with
  | zero => intro v3 v4 u hf; exact onb hf
  | succ n ih =>
    intro v3 v4 u hf
    unfold f0_walk_l5 at hf
    refine j_iload dX0_walk_5 4 rfl ?_
    refine j_aload_n dX0_walk_7 0 rfl ?_
    obtain ⟨x1, hx1, hf⟩ := obb hf
    refine c_geta (ci := 0) (k := 8) hx1 zcl_0 (Nat.le_of_ble_eq_true rfl) zf_X0_92 fk_8 dX0_walk_8 ?_
    obtain ⟨b2, hb2, hf⟩ := obb hf
    obtain ⟨eb2, tb2⟩ := ztg_s hb2
    obtain ⟨x3, hx3, hf⟩ := obb hf
    refine a_Fr (x := ix_0) [] [pI v4] (tJ2_size (some b2) u hx3) ⟨q556, q559, q561, q131, q563⟩ iF_0 df_0 rfl ⟨(Nat.le_of_ble_eq_true rfl), (Nat.le_of_ble_eq_true rfl)⟩ zcl_5 rfl tb2 (by rw [← eb2]; rfl) (Nat.le_of_ble_eq_true rfl) dX0_walk_11 ⟨Nat.le_refl 0, Nat.le_refl 0⟩ ?_
    refine j_icmp_ge (w32 v4) (w32 x3) rfl rfl 136 dX0_walk_16 (by decide) (fun h13 => ?_) (fun h13 => ?_)
    · replace hf := itb h13 hf
      exact j_sub [3] _ rfl (hK0 (v3, u) hf)
    · replace hf := ieb h13 hf
      refine j_aload_n dX0_walk_19 0 rfl ?_
      obtain ⟨x4, hx4, hf⟩ := obb hf
      refine c_geta (ci := 0) (k := 8) hx4 zcl_0 (Nat.le_of_ble_eq_true rfl) zf_X0_92 fk_8 dX0_walk_20 ?_
      refine j_iload dX0_walk_23 4 rfl ?_
      obtain ⟨b5, hb5, hf⟩ := obb hf
      obtain ⟨eb5, tb5⟩ := ztg_s hb5
      obtain ⟨x6, hx6, hf⟩ := obb hf
      refine a_Fr (x := ix_1) [pI v4] [] (tJ2_get (some b5) v4 u hx6) ⟨q1273, q813, q815, q131, q817⟩ iF_1 df_1 rfl ⟨(Nat.le_of_ble_eq_true rfl), (Nat.le_of_ble_eq_true rfl)⟩ zcl_5 rfl tb5 (by rw [← eb5]; rfl) (Nat.le_of_ble_eq_true rfl) dX0_walk_25 ⟨Nat.le_refl 0, Nat.le_refl 0⟩ ?_
      obtain ⟨y7, hy7, hf⟩ := obb hf
      refine c_cast hy7 zok_Claim q1642 dX0_walk_30 ?_
      refine j_astore dX0_walk_33 [(5, pR x6), (0, pR v0), (1, pI v1), (2, pI v2), (3, pI v3), (4, pI v4)] (Nat.le_of_ble_eq_true rfl) rfl ?_
      refine j_aload dX0_walk_35 0 rfl ?_
      obtain ⟨x8, hx8, hf⟩ := obb hf
      refine c_getiN (ci := 21) (k := 0) hx8 zcl_21 (Nat.le_of_ble_eq_true rfl) zf_X0_452 fk_840 dX0_walk_37 ?_
      refine j_iload_n dX0_walk_40 2 rfl ?_
      refine j_icmp_ne (w32 x8) (w32 v1) rfl rfl 130 dX0_walk_41 (by decide) (fun h12 => ?_) (fun h12 => ?_)
      · replace hf := ieb h12 hf
        refine j_iinc dX0_walk_130 5 rfl [(4, pI (v4 + 1)), (5, pR x6), (0, pR v0), (1, pI v1), (2, pI v2), (3, pI v3)] (Nat.le_of_ble_eq_true rfl) rfl ?_
        refine j_goto 5 dX0_walk_133 (by decide) ?_
        exact j_sub [2, 3, 4, 5, 0] _ rfl (ih v3 (v4 + 1) u hf)
      · replace hf := itb h12 hf
        refine j_aload dX0_walk_44 0 rfl ?_
        obtain ⟨x9, hx9, hf⟩ := obb hf
        refine c_getiN (ci := 21) (k := 3) hx9 zcl_21 (Nat.le_of_ble_eq_true rfl) zf_X0_455 fk_843 dX0_walk_46 ?_
        refine j_iload_n dX0_walk_49 3 rfl ?_
        refine j_icmp_le (w32 x9) (w32 v2) rfl rfl 56 dX0_walk_50 (by decide) (fun h11 => ?_) (fun h11 => ?_)
        · replace hf := itb h11 hf
          refine j_iload_n dX0_walk_56 4 rfl ?_
          refine j_iinc dX0_walk_57 4 rfl [(3, pI (v3 + 1)), (5, pR x6), (0, pR v0), (1, pI v1), (2, pI v2), (4, pI v4)] (Nat.le_of_ble_eq_true rfl) rfl ?_
          refine j_istore dX0_walk_60 [(6, pI v3), (3, pI (v3 + 1)), (5, pR x6), (0, pR v0), (1, pI v1), (2, pI v2), (4, pI v4)] (Nat.le_of_ble_eq_true rfl) rfl ?_
          replace hf := oba hf
          refine j_sub [3, 4, 5, 1, 6, 2, 0] _ rfl (t0_walk_l62 v0 v1 v2 (v3 + 1) v4 x6 ?_ NN v3 u hf)
          · intro q10 hf
            exact j_sub [0, 1, 2, 3, 4, 5] _ rfl (t0_walk_b121 (f0_walk_l5 G v0 v1 v2 n) ih hK0 (v3 + 1) v4 q10.1 q10.2 hf)
        · replace hf := ieb h11 hf
          refine j_goto 130 dX0_walk_53 (by decide) ?_
          refine j_iinc dX0_walk_130 5 rfl [(4, pI (v4 + 1)), (5, pR x6), (0, pR v0), (1, pI v1), (2, pI v2), (3, pI v3)] (Nat.le_of_ble_eq_true rfl) rfl ?_
          refine j_goto 5 dX0_walk_133 (by decide) ?_
          exact j_sub [2, 3, 4, 5, 0] _ rfl (ih v3 (v4 + 1) u hf)
theorem t0_walk {G : CG} {A : Nat → Prop} {l : Launch} {r : Int × Sg} (v0 : Option Nat) (v1 : Int) (v2 : Int) (u : Sg) (hf : f0_walk G v0 v1 v2 u = some r) : JM kC (bC G A) A l yX0_walk D0_walk [pR v0, pI v1, pI v2] u (some (pI r.1)) r.2 0 0 := by
  refine j_met (lv0 := [(0, pR v0), (1, pI v1), (2, pI v2)]) ⟨pl_X0, rfl, rfl, (Nat.le_of_ble_eq_true rfl), rfl⟩ ?_
  unfold f0_walk at hf
  refine j_iconst dX0_walk_0 ?_
  refine j_istore_n dX0_walk_1 [(3, pI 0), (0, pR v0), (1, pI v1), (2, pI v2)] (Nat.le_of_ble_eq_true rfl) rfl ?_
  refine j_iconst dX0_walk_2 ?_
  refine j_istore dX0_walk_3 [(4, pI 0), (3, pI 0), (0, pR v0), (1, pI v1), (2, pI v2)] (Nat.le_of_ble_eq_true rfl) rfl ?_
  refine j_sub [2, 3, 4, 1, 0] _ rfl (t0_walk_l5 v0 v1 v2 ?_ NN 0 0 u hf)
  · intro q1 hf
    refine j_iload_n dX0_walk_136 0 rfl ?_
    replace hf := Option.some.inj hf
    subst hf
    exact j_ireturn (bC_mv G A) ⟨Nat.le_refl 0, Nat.le_refl 0⟩ rfl dX0_walk_137
theorem t0_bounded {G : CG} {A : Nat → Prop} {l : Launch} {r : Int} (v0 : Int) (v2 : Int) (v3 : Int) (u : Sg) (hf : f0_bounded v0 v2 v3 = some r) : JM kC (bC G A) A l yX0_bounded D0_bounded [pL v0, pI v2, pL v3] u (some (pL r)) u 0 0 := by
  refine j_met (lv0 := [(0, pL v0), (2, pI v2), (3, pL v3)]) ⟨pl_X0, rfl, rfl, (Nat.le_of_ble_eq_true rfl), rfl⟩ ?_
  unfold f0_bounded at hf
  refine j_iload_n dX0_bounded_0 1 rfl ?_
  refine j_if_ge (w32 v2) rfl 8 dX0_bounded_1 (by decide) (fun h1 => ?_) (fun h1 => ?_)
  · replace hf := it h1 hf
    refine j_lconst (z := 0) dX0_bounded_8 rfl ?_
    refine j_lload_n dX0_bounded_9 0 rfl ?_
    refine j_iload_n dX0_bounded_10 1 rfl ?_
    refine j_i2l dX0_bounded_11 ?_
    refine j_lload_n dX0_bounded_12 2 rfl ?_
    refine j_lsub dX0_bounded_13 ?_
    refine j_mmin_long q1705 q1185 q137 q1186 (Nat.le_of_ble_eq_true rfl) (Nat.le_of_ble_eq_true rfl) (Nat.le_of_ble_eq_true rfl) ⟨Nat.le_refl 0, Nat.le_refl 0⟩ dX0_bounded_14 ?_
    refine j_mmax_long q1586 q1587 q137 q1588 (Nat.le_of_ble_eq_true rfl) (Nat.le_of_ble_eq_true rfl) (Nat.le_of_ble_eq_true rfl) ⟨Nat.le_refl 0, Nat.le_refl 0⟩ dX0_bounded_17 ?_
    replace hf := Option.some.inj hf
    subst hf
    exact j_lreturn (bC_mv G A) ⟨Nat.le_refl 0, Nat.le_refl 0⟩ rfl dX0_bounded_20
  · replace hf := ie h1 hf
    refine j_lload_n dX0_bounded_4 0 rfl ?_
    refine j_goto 20 dX0_bounded_5 (by decide) ?_
    replace hf := Option.some.inj hf
    subst hf
    exact j_lreturn (bC_mv G A) ⟨Nat.le_refl 0, Nat.le_refl 0⟩ rfl dX0_bounded_20
theorem t0_worth_b140 {G : CG} {A : Nat → Prop} {l : Launch} {a : List PV} {r : Int × Sg} (v1 : Option Nat) (v2 : Option Nat) (v3 : Int) (v4 : Int) (v6 : Int) (v9 : Option Nat) (s0 : Int) (s1 : Int) (u : Sg) (hf : f0_worth_b140 G v1 v2 v3 v4 v6 v9 s0 s1 u = some r) : JW kC (bC G A) A l D0_worth a (jQ (bC G A) A a (some (pL r.1)) r.2 0 0) 0 0 u 0 0 140 [(1, pR v1), (2, pR v2), (3, pI v3), (4, pL v4), (6, pL v6), (9, pR v9)] [pI s1, pL s0] := by
  unfold f0_worth_b140 at hf
  refine j_i2l dX0_worth_140 ?_
  refine j_lmul dX0_worth_141 ?_
  refine j_ldc2 (z := 1000) q1589 (by decide) dX0_worth_142 ?_
  refine j_ldiv dX0_worth_145 (by decide) ?_
  refine j_lstore dX0_worth_146 [(10, pL (div64 (s0 * (w32 s1)) 1000)), (1, pR v1), (2, pR v2), (3, pI v3), (4, pL v4), (6, pL v6), (9, pR v9)] (Nat.le_of_ble_eq_true rfl) rfl ?_
  refine j_lload dX0_worth_148 0 rfl ?_
  refine j_aload dX0_worth_150 6 rfl ?_
  obtain ⟨x1, hx1, hf⟩ := ob hf
  refine c_getaN (ci := 6) (k := 7) hx1 zcl_6 (Nat.le_of_ble_eq_true rfl) zf_X0_261 fk_247 dX0_worth_152 ?_
  refine j_iconst dX0_worth_155 ?_
  obtain ⟨x2, hx2, hf⟩ := ob hf
  refine c_iald hx2 dX0_worth_156 ?_
  refine j_lconst (z := 0) dX0_worth_157 rfl ?_
  obtain ⟨x3, hx3, hf⟩ := ob hf
  refine a_Sr [pL (div64 (s0 * (w32 s1)) 1000), pI x2, pL 0] [] (t0_bounded (div64 (s0 * (w32 s1)) 1000) x2 0 u hx3) ⟨q1702, q1703, q128, q1704⟩ dv0_bounded rfl ⟨(Nat.le_of_ble_eq_true rfl), (Nat.le_of_ble_eq_true rfl)⟩ rfl (Nat.le_of_ble_eq_true rfl) dX0_worth_158 ⟨Nat.le_refl 0, Nat.le_refl 0⟩ ?_
  refine j_lstore dX0_worth_161 [(10, pL x3), (1, pR v1), (2, pR v2), (3, pI v3), (4, pL v4), (6, pL v6), (9, pR v9)] (Nat.le_of_ble_eq_true rfl) rfl ?_
  refine j_lload dX0_worth_163 0 rfl ?_
  refine j_aload dX0_worth_165 6 rfl ?_
  obtain ⟨x4, hx4, hf⟩ := ob hf
  refine c_getaN (ci := 6) (k := 7) hx4 zcl_6 (Nat.le_of_ble_eq_true rfl) zf_X0_261 fk_247 dX0_worth_167 ?_
  refine j_iconst dX0_worth_170 ?_
  obtain ⟨x5, hx5, hf⟩ := ob hf
  refine c_iald hx5 dX0_worth_171 ?_
  refine j_lload dX0_worth_172 5 rfl ?_
  obtain ⟨x6, hx6, hf⟩ := ob hf
  refine a_Sr [pL x3, pI x5, pL v6] [] (t0_bounded x3 x5 v6 u hx6) ⟨q1702, q1703, q128, q1704⟩ dv0_bounded rfl ⟨(Nat.le_of_ble_eq_true rfl), (Nat.le_of_ble_eq_true rfl)⟩ rfl (Nat.le_of_ble_eq_true rfl) dX0_worth_174 ⟨Nat.le_refl 0, Nat.le_refl 0⟩ ?_
  refine j_lstore dX0_worth_177 [(10, pL x6), (1, pR v1), (2, pR v2), (3, pI v3), (4, pL v4), (6, pL v6), (9, pR v9)] (Nat.le_of_ble_eq_true rfl) rfl ?_
  refine j_lload dX0_worth_179 0 rfl ?_
  refine j_aload dX0_worth_181 6 rfl ?_
  obtain ⟨x7, hx7, hf⟩ := ob hf
  refine c_getaN (ci := 6) (k := 7) hx7 zcl_6 (Nat.le_of_ble_eq_true rfl) zf_X0_261 fk_247 dX0_worth_183 ?_
  refine j_iconst dX0_worth_186 ?_
  obtain ⟨x8, hx8, hf⟩ := ob hf
  refine c_iald hx8 dX0_worth_187 ?_
  refine j_lload dX0_worth_188 4 rfl ?_
  obtain ⟨x9, hx9, hf⟩ := ob hf
  refine a_Sr [pL x6, pI x8, pL v4] [] (t0_bounded x6 x8 v4 u hx9) ⟨q1702, q1703, q128, q1704⟩ dv0_bounded rfl ⟨(Nat.le_of_ble_eq_true rfl), (Nat.le_of_ble_eq_true rfl)⟩ rfl (Nat.le_of_ble_eq_true rfl) dX0_worth_190 ⟨Nat.le_refl 0, Nat.le_refl 0⟩ ?_
  refine j_lstore dX0_worth_193 [(10, pL x9), (1, pR v1), (2, pR v2), (3, pI v3), (4, pL v4), (6, pL v6), (9, pR v9)] (Nat.le_of_ble_eq_true rfl) rfl ?_
  refine j_lload dX0_worth_195 0 rfl ?_
  refine j_aload_n dX0_worth_197 2 rfl ?_
  refine j_iconst dX0_worth_198 ?_
  refine j_aload_n dX0_worth_199 1 rfl ?_
  obtain ⟨x10, hx10, hf⟩ := ob hf
  refine c_getiN (ci := 21) (k := 2) hx10 zcl_21 (Nat.le_of_ble_eq_true rfl) zf_X0_456 fk_842 dX0_worth_200 ?_
  refine j_iload_n dX0_worth_203 3 rfl ?_
  obtain ⟨b11, hb11, hf⟩ := ob hf
  obtain ⟨eb11, tb11⟩ := ztg_s hb11
  obtain ⟨x12, hx12, hf⟩ := ob hf
  refine a_Vr [pI 1, pI x10, pI v3] [pL x9] (t20_on (some b11) 1 x10 v3 u hx12) ⟨q1634, q1635, q1636, q169, q1637⟩ dv20_on rfl ⟨(Nat.le_of_ble_eq_true rfl), (Nat.le_of_ble_eq_true rfl)⟩ (c_recv zcl_20 tb11) (by rw [← eb11]; rfl) (Nat.le_of_ble_eq_true rfl) dX0_worth_204 ⟨Nat.le_refl 0, Nat.le_refl 0⟩ ?_
  refine j_lload dX0_worth_207 4 rfl ?_
  obtain ⟨x13, hx13, hf⟩ := ob hf
  refine a_Sr [pL x9, pI x12, pL v4] [] (t0_bounded x9 x12 v4 u hx13) ⟨q1702, q1703, q128, q1704⟩ dv0_bounded rfl ⟨(Nat.le_of_ble_eq_true rfl), (Nat.le_of_ble_eq_true rfl)⟩ rfl (Nat.le_of_ble_eq_true rfl) dX0_worth_209 ⟨Nat.le_refl 0, Nat.le_refl 0⟩ ?_
  replace hf := Option.some.inj hf
  subst hf
  exact j_lreturn (bC_mv G A) ⟨Nat.le_refl 0, Nat.le_refl 0⟩ rfl dX0_worth_212
theorem t0_worth {G : CG} {A : Nat → Prop} {l : Launch} {r : Int × Sg} (v0 : Option Nat) (v1 : Option Nat) (v2 : Option Nat) (v3 : Int) (v4 : Int) (v6 : Int) (u : Sg) (hf : f0_worth G v0 v1 v2 v3 v4 v6 u = some r) : JM kC (bC G A) A l yX0_worth D0_worth [pR v0, pR v1, pR v2, pI v3, pL v4, pL v6] u (some (pL r.1)) r.2 0 0 := by
  refine j_met (lv0 := [(0, pR v0), (1, pR v1), (2, pR v2), (3, pI v3), (4, pL v4), (6, pL v6)]) ⟨pl_X0, rfl, rfl, (Nat.le_of_ble_eq_true rfl), rfl⟩ ?_
  unfold f0_worth at hf
  refine j_aload_n dX0_worth_0 2 rfl ?_
  refine j_iconst dX0_worth_1 ?_
  refine j_aload_n dX0_worth_2 1 rfl ?_
  obtain ⟨x1, hx1, hf⟩ := ob hf
  refine c_getiN (ci := 21) (k := 2) hx1 zcl_21 (Nat.le_of_ble_eq_true rfl) zf_X0_456 fk_842 dX0_worth_3 ?_
  refine j_iload_n dX0_worth_6 3 rfl ?_
  obtain ⟨b2, hb2, hf⟩ := ob hf
  obtain ⟨eb2, tb2⟩ := ztg_s hb2
  obtain ⟨x3, hx3, hf⟩ := ob hf
  refine a_Vr [pI 0, pI x1, pI v3] [] (t20_on (some b2) 0 x1 v3 u hx3) ⟨q1634, q1635, q1636, q169, q1637⟩ dv20_on rfl ⟨(Nat.le_of_ble_eq_true rfl), (Nat.le_of_ble_eq_true rfl)⟩ (c_recv zcl_20 tb2) (by rw [← eb2]; rfl) (Nat.le_of_ble_eq_true rfl) dX0_worth_7 ⟨Nat.le_refl 0, Nat.le_refl 0⟩ ?_
  refine j_istore dX0_worth_10 [(8, pI x3), (0, pR v0), (1, pR v1), (2, pR v2), (3, pI v3), (4, pL v4), (6, pL v6)] (Nat.le_of_ble_eq_true rfl) rfl ?_
  refine j_aload_n dX0_worth_12 3 rfl ?_
  refine j_iconst dX0_worth_13 ?_
  refine j_aload_n dX0_worth_14 2 rfl ?_
  obtain ⟨x4, hx4, hf⟩ := ob hf
  refine c_getiN (ci := 21) (k := 2) hx4 zcl_21 (Nat.le_of_ble_eq_true rfl) zf_X0_456 fk_842 dX0_worth_15 ?_
  refine j_iload_n dX0_worth_18 4 rfl ?_
  obtain ⟨b5, hb5, hf⟩ := ob hf
  obtain ⟨eb5, tb5⟩ := ztg_s hb5
  obtain ⟨x6, hx6, hf⟩ := ob hf
  refine a_Vr [pI 2, pI x4, pI v3] [] (t20_on (some b5) 2 x4 v3 u hx6) ⟨q1634, q1635, q1636, q169, q1637⟩ dv20_on rfl ⟨(Nat.le_of_ble_eq_true rfl), (Nat.le_of_ble_eq_true rfl)⟩ (c_recv zcl_20 tb5) (by rw [← eb5]; rfl) (Nat.le_of_ble_eq_true rfl) dX0_worth_19 ⟨Nat.le_refl 0, Nat.le_refl 0⟩ ?_
  refine j_if_eq (w32 x6) rfl 49 dX0_worth_22 (by decide) (fun h34 => ?_) (fun h34 => ?_)
  · replace hf := it h34 hf
    refine j_lconst (z := 0) dX0_worth_49 rfl ?_
    replace hf := Option.some.inj hf
    subst hf
    exact j_lreturn (bC_mv G A) ⟨Nat.le_refl 0, Nat.le_refl 0⟩ rfl dX0_worth_50
  · replace hf := ie h34 hf
    refine j_iload dX0_worth_25 0 rfl ?_
    refine j_if_eq (w32 x3) rfl 49 dX0_worth_27 (by decide) (fun h33 => ?_) (fun h33 => ?_)
    · replace hf := it h33 hf
      refine j_lconst (z := 0) dX0_worth_49 rfl ?_
      replace hf := Option.some.inj hf
      subst hf
      exact j_lreturn (bC_mv G A) ⟨Nat.le_refl 0, Nat.le_refl 0⟩ rfl dX0_worth_50
    · replace hf := ie h33 hf
      refine j_aload_n dX0_worth_30 1 rfl ?_
      refine j_iload dX0_worth_31 0 rfl ?_
      obtain ⟨b7, hb7, hf⟩ := ob hf
      obtain ⟨eb7, tb7⟩ := ztg_s hb7
      obtain ⟨x8, hx8, hf⟩ := ob hf
      refine a_Vr [pI x3] [] (t0_the (some b7) x3 u hx8) ⟨q1268, q1270, qs38, q128, q1271⟩ dv0_the rfl ⟨(Nat.le_of_ble_eq_true rfl), (Nat.le_of_ble_eq_true rfl)⟩ (c_recv zcl_0 tb7) (by rw [← eb7]; rfl) (Nat.le_of_ble_eq_true rfl) dX0_worth_33 ⟨Nat.le_refl 0, Nat.le_refl 0⟩ ?_
      refine j_aload_n dX0_worth_36 2 rfl ?_
      obtain ⟨x9, hx9, hf⟩ := ob hf
      refine c_getaN (ci := 21) (k := 1) hx9 zcl_21 (Nat.le_of_ble_eq_true rfl) zf_X0_469 fk_841 dX0_worth_37 ?_
      obtain ⟨x10, hx10, hf⟩ := ob hf
      refine c_getaN (ci := 18) (k := 0) hx10 zcl_18 (Nat.le_of_ble_eq_true rfl) zf_X0_337 fk_720 dX0_worth_40 ?_
      obtain ⟨b11, hb11, hf⟩ := ob hf
      obtain ⟨eb11, tb11⟩ := ztg_s hb11
      obtain ⟨x12, hx12, hf⟩ := ob hf
      refine a_Vr [pR x10] [] (t6_isComparable (some b11) x10 u hx12) ⟨q1351, q1352, q1353, q145, q1354⟩ dv6_isComparable rfl ⟨(Nat.le_of_ble_eq_true rfl), (Nat.le_of_ble_eq_true rfl)⟩ (c_recv zcl_6 tb11) (by rw [← eb11]; rfl) (Nat.le_of_ble_eq_true rfl) dX0_worth_43 ⟨Nat.le_refl 0, Nat.le_refl 0⟩ ?_
      refine j_if_ne (w32 x12) rfl 51 dX0_worth_46 (by decide) (fun h32 => ?_) (fun h32 => ?_)
      · replace hf := ie h32 hf
        refine j_aload_n dX0_worth_51 1 rfl ?_
        refine j_iload dX0_worth_52 0 rfl ?_
        obtain ⟨b13, hb13, hf⟩ := ob hf
        obtain ⟨eb13, tb13⟩ := ztg_s hb13
        obtain ⟨x14, hx14, hf⟩ := ob hf
        refine a_Vr [pI x3] [] (t0_the (some b13) x3 u hx14) ⟨q1268, q1270, qs38, q128, q1271⟩ dv0_the rfl ⟨(Nat.le_of_ble_eq_true rfl), (Nat.le_of_ble_eq_true rfl)⟩ (c_recv zcl_0 tb13) (by rw [← eb13]; rfl) (Nat.le_of_ble_eq_true rfl) dX0_worth_54 ⟨Nat.le_refl 0, Nat.le_refl 0⟩ ?_
        refine j_astore dX0_worth_57 [(9, pR x14), (8, pI x3), (0, pR v0), (1, pR v1), (2, pR v2), (3, pI v3), (4, pL v4), (6, pL v6)] (Nat.le_of_ble_eq_true rfl) rfl ?_
        refine j_aload_n dX0_worth_59 2 rfl ?_
        obtain ⟨x15, hx15, hf⟩ := ob hf
        refine c_geta (ci := 0) (k := 14) hx15 zcl_0 (Nat.le_of_ble_eq_true rfl) zf_X0_117 fk_14 dX0_worth_60 ?_
        refine j_aload dX0_worth_63 0 rfl ?_
        refine j_aload_n dX0_worth_65 3 rfl ?_
        obtain ⟨x16, hx16, hf⟩ := ob hf
        refine c_getaN (ci := 21) (k := 1) hx16 zcl_21 (Nat.le_of_ble_eq_true rfl) zf_X0_469 fk_841 dX0_worth_66 ?_
        refine j_iload_n dX0_worth_69 5 rfl ?_
        obtain ⟨b17, hb17, hf⟩ := ob hf
        obtain ⟨eb17, tb17⟩ := ztg_s hb17
        obtain ⟨u18, hu18, hf⟩ := ob hf
        refine a_Vv [pR x14, pR x16, pI v3] [] (t2_set (some b17) x14 x16 v3 u hu18) ⟨q1502, q1503, q1504, q133, q1505⟩ dv2_set rfl ⟨(Nat.le_of_ble_eq_true rfl), (Nat.le_of_ble_eq_true rfl)⟩ (c_recv zcl_2 tb17) (by rw [← eb17]; rfl) (Nat.le_of_ble_eq_true rfl) dX0_worth_70 ⟨Nat.le_refl 0, Nat.le_refl 0⟩ ?_
        refine j_aload_n dX0_worth_73 2 rfl ?_
        obtain ⟨x19, hx19, hf⟩ := ob hf
        refine c_geta (ci := 0) (k := 14) hx19 zcl_0 (Nat.le_of_ble_eq_true rfl) zf_X0_117 fk_14 dX0_worth_74 ?_
        refine j_aload_n dX0_worth_77 2 rfl ?_
        obtain ⟨x20, hx20, hf⟩ := ob hf
        refine c_geta (ci := 0) (k := 14) hx20 zcl_0 (Nat.le_of_ble_eq_true rfl) zf_X0_117 fk_14 dX0_worth_78 ?_
        obtain ⟨x21, hx21, hf⟩ := ob hf
        refine c_getiN (ci := 2) (k := 2) hx21 zcl_2 (Nat.le_of_ble_eq_true rfl) zf_X0_362 fk_82 dX0_worth_81 ?_
        obtain ⟨b22, hb22, hf⟩ := ob hf
        obtain ⟨eb22, tb22⟩ := ztg_s hb22
        obtain ⟨q23, hq23, hf⟩ := ob hf
        refine a_Vr [pI x21] [] (t2_answerBy (some b22) x21 u18 hq23) ⟨q1514, q1515, q1516, q133, q1517⟩ dv2_answerBy rfl ⟨(Nat.le_of_ble_eq_true rfl), (Nat.le_of_ble_eq_true rfl)⟩ (c_recv zcl_2 tb22) (by rw [← eb22]; rfl) (Nat.le_of_ble_eq_true rfl) dX0_worth_84 ⟨Nat.le_refl 0, Nat.le_refl 0⟩ ?_
        refine j_iconst dX0_worth_87 ?_
        refine j_icmp_eq (w32 q23.1) 1 rfl rfl 93 dX0_worth_88 (by decide) (fun h31 => ?_) (fun h31 => ?_)
        · replace hf := it h31 hf
          refine j_lconst (z := 0) dX0_worth_93 rfl ?_
          refine j_aload_n dX0_worth_94 3 rfl ?_
          obtain ⟨x24, hx24, hf⟩ := ob hf
          refine c_getaN (ci := 21) (k := 4) hx24 zcl_21 (Nat.le_of_ble_eq_true rfl) zf_X0_448 fk_844 dX0_worth_95 ?_
          refine j_iload_n dX0_worth_98 5 rfl ?_
          refine j_iconst dX0_worth_99 ?_
          obtain ⟨b25, hb25, hf⟩ := ob hf
          obtain ⟨eb25, tb25⟩ := ztg_s hb25
          obtain ⟨x26, hx26, hf⟩ := ob hf
          refine a_Vr [pI v3, pI 0] [pL 0] (t19_on (some b25) v3 0 q23.2 hx26) ⟨q1490, q1491, q1492, q167, q1493⟩ dv19_on rfl ⟨(Nat.le_of_ble_eq_true rfl), (Nat.le_of_ble_eq_true rfl)⟩ (c_recv zcl_19 tb25) (by rw [← eb25]; rfl) (Nat.le_of_ble_eq_true rfl) dX0_worth_100 ⟨Nat.le_refl 0, Nat.le_refl 0⟩ ?_
          refine j_iconst dX0_worth_103 ?_
          refine j_aload dX0_worth_104 0 rfl ?_
          obtain ⟨x27, hx27, hf⟩ := ob hf
          refine c_getiN (ci := 6) (k := 5) hx27 zcl_6 (Nat.le_of_ble_eq_true rfl) zf_X0_255 fk_245 dX0_worth_106 ?_
          refine j_mmax q1701 q346 q137 q347 (Nat.le_of_ble_eq_true rfl) (Nat.le_of_ble_eq_true rfl) (Nat.le_of_ble_eq_true rfl) ⟨Nat.le_refl 0, Nat.le_refl 0⟩ dX0_worth_109 ?_
          refine j_isub dX0_worth_112 ?_
          refine j_i2l dX0_worth_113 ?_
          refine j_mmax_long q1586 q1587 q137 q1588 (Nat.le_of_ble_eq_true rfl) (Nat.le_of_ble_eq_true rfl) (Nat.le_of_ble_eq_true rfl) ⟨Nat.le_refl 0, Nat.le_refl 0⟩ dX0_worth_114 ?_
          refine j_lstore dX0_worth_117 [(10, pL (mx64 0 (w32 (x26 - (mx32 0 x27))))), (9, pR x14), (8, pI x3), (0, pR v0), (1, pR v1), (2, pR v2), (3, pI v3), (4, pL v4), (6, pL v6)] (Nat.le_of_ble_eq_true rfl) rfl ?_
          refine j_lload dX0_worth_119 0 rfl ?_
          refine j_aload dX0_worth_121 1 rfl ?_
          obtain ⟨x28, hx28, hf⟩ := ob hf
          refine c_getiN (ci := 6) (k := 6) hx28 zcl_6 (Nat.le_of_ble_eq_true rfl) zf_X0_258 fk_246 dX0_worth_123 ?_
          refine j_if_ge (w32 x28) rfl 135 dX0_worth_126 (by decide) (fun h30 => ?_) (fun h30 => ?_)
          · replace hf := it h30 hf
            refine j_aload dX0_worth_135 1 rfl ?_
            obtain ⟨x29, hx29, hf⟩ := ob hf
            refine c_getiN (ci := 6) (k := 6) hx29 zcl_6 (Nat.le_of_ble_eq_true rfl) zf_X0_258 fk_246 dX0_worth_137 ?_
            exact j_sub [4, 5, 6, 7, 8, 1] _ rfl (t0_worth_b140 v1 v2 v3 v4 v6 x14 (mx64 0 (w32 (x26 - (mx32 0 x27)))) x29 q23.2 hf)
          · replace hf := ie h30 hf
            refine j_sipush dX0_worth_129 (by decide) ?_
            refine j_goto 140 dX0_worth_132 (by decide) ?_
            exact j_sub [4, 5, 6, 7, 8, 1] _ rfl (t0_worth_b140 v1 v2 v3 v4 v6 x14 (mx64 0 (w32 (x26 - (mx32 0 x27)))) 1000 q23.2 hf)
        · replace hf := ie h31 hf
          refine j_lconst (z := 0) dX0_worth_91 rfl ?_
          replace hf := Option.some.inj hf
          subst hf
          exact j_lreturn (bC_mv G A) ⟨Nat.le_refl 0, Nat.le_refl 0⟩ rfl dX0_worth_92
      · replace hf := it h32 hf
        refine j_lconst (z := 0) dX0_worth_49 rfl ?_
        replace hf := Option.some.inj hf
        subst hf
        exact j_lreturn (bC_mv G A) ⟨Nat.le_refl 0, Nat.le_refl 0⟩ rfl dX0_worth_50
theorem t0_payAll_l2 {G : CG} {A : Nat → Prop} {l : Launch} {a : List PV} {r : Sg} {Kf : Sg → Option (Sg)} (v0 : Option Nat) (v1 : Int) (v2 : Int) (hK0 : ∀ q : Sg, Kf q = some r → JW kC (bC G A) A l D0_payAll a (jQ (bC G A) A a none r 0 0) 0 0 q 0 0 57 [(0, pR v0), (1, pI v1), (2, pI v2)] []) : ∀ (n : Nat) (v3 : Int) (u : Sg), ((f0_payAll_l2 G v0 v1 v2 n v3 u).bind Kf = some r) → JW kC (bC G A) A l D0_payAll a (jQ (bC G A) A a none r 0 0) 0 0 u 0 0 2 [(0, pR v0), (1, pI v1), (2, pI v2), (3, pI v3)] [] := by
  intro n
  induction n with
  | zero => intro v3 u hf; exact onb hf
  | succ n ih =>
    intro v3 u hf
    unfold f0_payAll_l2 at hf
    refine j_iload_n dX0_payAll_2 3 rfl ?_
    refine j_aload_n dX0_payAll_3 0 rfl ?_
    obtain ⟨x1, hx1, hf⟩ := obb hf
    refine c_geta (ci := 0) (k := 8) hx1 zcl_0 (Nat.le_of_ble_eq_true rfl) zf_X0_92 fk_8 dX0_payAll_4 ?_
    obtain ⟨b2, hb2, hf⟩ := obb hf
    obtain ⟨eb2, tb2⟩ := ztg_s hb2
    obtain ⟨x3, hx3, hf⟩ := obb hf
    refine a_Fr (x := ix_0) [] [pI v3] (tJ2_size (some b2) u hx3) ⟨q556, q559, q561, q131, q563⟩ iF_0 df_0 rfl ⟨(Nat.le_of_ble_eq_true rfl), (Nat.le_of_ble_eq_true rfl)⟩ zcl_5 rfl tb2 (by rw [← eb2]; rfl) (Nat.le_of_ble_eq_true rfl) dX0_payAll_7 ⟨Nat.le_refl 0, Nat.le_refl 0⟩ ?_
    refine j_icmp_ge (w32 v3) (w32 x3) rfl rfl 57 dX0_payAll_12 (by decide) (fun h15 => ?_) (fun h15 => ?_)
    · replace hf := itb h15 hf
      exact j_sub [0, 1, 2] _ rfl (hK0 u hf)
    · replace hf := ieb h15 hf
      refine j_aload_n dX0_payAll_15 0 rfl ?_
      obtain ⟨x4, hx4, hf⟩ := obb hf
      refine c_geta (ci := 0) (k := 16) hx4 zcl_0 (Nat.le_of_ble_eq_true rfl) zf_X0_128 fk_16 dX0_payAll_16 ?_
      refine j_iload_n dX0_payAll_19 3 rfl ?_
      refine j_aload_n dX0_payAll_20 0 rfl ?_
      obtain ⟨x5, hx5, hf⟩ := obb hf
      refine c_geta (ci := 0) (k := 8) hx5 zcl_0 (Nat.le_of_ble_eq_true rfl) zf_X0_92 fk_8 dX0_payAll_21 ?_
      refine j_iload_n dX0_payAll_24 3 rfl ?_
      obtain ⟨b6, hb6, hf⟩ := obb hf
      obtain ⟨eb6, tb6⟩ := ztg_s hb6
      obtain ⟨x7, hx7, hf⟩ := obb hf
      refine a_Fr (x := ix_1) [pI v3] [pI v3, pR x4] (tJ2_get (some b6) v3 u hx7) ⟨q1273, q813, q815, q131, q817⟩ iF_1 df_1 rfl ⟨(Nat.le_of_ble_eq_true rfl), (Nat.le_of_ble_eq_true rfl)⟩ zcl_5 rfl tb6 (by rw [← eb6]; rfl) (Nat.le_of_ble_eq_true rfl) dX0_payAll_25 ⟨Nat.le_refl 0, Nat.le_refl 0⟩ ?_
      obtain ⟨y8, hy8, hf⟩ := obb hf
      refine c_cast hy8 zok_Claim q1642 dX0_payAll_30 ?_
      obtain ⟨x9, hx9, hf⟩ := obb hf
      refine c_getiN (ci := 21) (k := 0) hx9 zcl_21 (Nat.le_of_ble_eq_true rfl) zf_X0_452 fk_840 dX0_payAll_33 ?_
      refine j_iload_n dX0_payAll_36 1 rfl ?_
      refine j_icmp_ne (w32 x9) (w32 v1) rfl rfl 44 dX0_payAll_37 (by decide) (fun h14 => ?_) (fun h14 => ?_)
      · replace hf := ieb h14 hf
        refine j_aload_n dX0_payAll_44 0 rfl ?_
        obtain ⟨x10, hx10, hf⟩ := obb hf
        refine c_geta (ci := 0) (k := 16) hx10 zcl_0 (Nat.le_of_ble_eq_true rfl) zf_X0_128 fk_16 dX0_payAll_45 ?_
        refine j_iload_n dX0_payAll_48 3 rfl ?_
        obtain ⟨x11, hx11, hf⟩ := obb hf
        refine c_iald hx11 dX0_payAll_49 ?_
        obtain ⟨u12, hu12, hf⟩ := obb hf
        refine c_iast hu12 dX0_payAll_50 ?_
        refine j_iinc dX0_payAll_51 3 rfl [(3, pI (v3 + 1)), (0, pR v0), (1, pI v1), (2, pI v2)] (Nat.le_of_ble_eq_true rfl) rfl ?_
        refine j_goto 2 dX0_payAll_54 (by decide) ?_
        exact j_sub [1, 2, 3, 0] _ rfl (ih (v3 + 1) u12 hf)
      · replace hf := itb h14 hf
        refine j_iconst dX0_payAll_40 ?_
        refine j_goto 50 dX0_payAll_41 (by decide) ?_
        obtain ⟨u13, hu13, hf⟩ := obb hf
        refine c_iast hu13 dX0_payAll_50 ?_
        refine j_iinc dX0_payAll_51 3 rfl [(3, pI (v3 + 1)), (0, pR v0), (1, pI v1), (2, pI v2)] (Nat.le_of_ble_eq_true rfl) rfl ?_
        refine j_goto 2 dX0_payAll_54 (by decide) ?_
        exact j_sub [1, 2, 3, 0] _ rfl (ih (v3 + 1) u13 hf)
theorem t0_payAll_b167 {G : CG} {A : Nat → Prop} {l : Launch} {a : List PV} {r : Sg} {Kf : Int → Option (Sg)} {v0 : Option Nat} {v1 : Int} {v2 : Int} {v3 : Int} {v4 : Int} {v6 : Int} {v7 : Option Nat} {u : Sg} (kh : Int → Int → Option (Int)) (hkh : ∀ (z8 : Int) (z10 : Int), ((kh z8 z10).bind Kf = some r) → JW kC (bC G A) A l D0_payAll a (jQ (bC G A) A a none r 0 0) 0 0 u 0 0 103 [(0, pR v0), (1, pI v1), (2, pI v2), (3, pI v3), (4, pL v4), (6, pI v6), (7, pR v7), (8, pL z8), (10, pI z10)] []) (hK0 : ∀ q : Int, Kf q = some r → JW kC (bC G A) A l D0_payAll a (jQ (bC G A) A a none r 0 0) 0 0 u 0 0 176 [(0, pR v0), (1, pI v1), (2, pI v2), (3, pI v3), (4, pL v4), (6, pI v6), (7, pR v7), (8, pL q)] []) (v10 : Int) (s0 : Int) (s1 : Int) (hf : (f0_payAll_b167 G kh v0 v1 v2 v3 v4 v6 v7 v10 s0 s1 u).bind Kf = some r) : JW kC (bC G A) A l D0_payAll a (jQ (bC G A) A a none r 0 0) 0 0 u 0 0 167 [(0, pR v0), (1, pI v1), (2, pI v2), (3, pI v3), (4, pL v4), (6, pI v6), (7, pR v7), (10, pI v10)] [pL s1, pL s0] := by
  unfold f0_payAll_b167 at hf
  refine j_ladd dX0_payAll_167 ?_
  refine j_lstore dX0_payAll_168 [(8, pL (s0 + s1)), (0, pR v0), (1, pI v1), (2, pI v2), (3, pI v3), (4, pL v4), (6, pI v6), (7, pR v7), (10, pI v10)] (Nat.le_of_ble_eq_true rfl) rfl ?_
  refine j_iinc dX0_payAll_170 8 rfl [(10, pI (v10 + 1)), (8, pL (s0 + s1)), (0, pR v0), (1, pI v1), (2, pI v2), (3, pI v3), (4, pL v4), (6, pI v6), (7, pR v7)] (Nat.le_of_ble_eq_true rfl) rfl ?_
  refine j_goto 103 dX0_payAll_173 (by decide) ?_
  exact j_sub [2, 3, 4, 5, 6, 7, 8, 1, 0] _ rfl (hkh (s0 + s1) (v10 + 1) hf)
theorem t0_payAll_l103 {G : CG} {A : Nat → Prop} {l : Launch} {a : List PV} {r : Sg} {Kf : Int → Option (Sg)} (v0 : Option Nat) (v1 : Int) (v2 : Int) (v3 : Int) (v4 : Int) (v6 : Int) (v7 : Option Nat) (u : Sg) (hK0 : ∀ q : Int, Kf q = some r → JW kC (bC G A) A l D0_payAll a (jQ (bC G A) A a none r 0 0) 0 0 u 0 0 176 [(0, pR v0), (1, pI v1), (2, pI v2), (3, pI v3), (4, pL v4), (6, pI v6), (7, pR v7), (8, pL q)] []) : ∀ (n : Nat) (v8 : Int) (v10 : Int), ((f0_payAll_l103 G v0 v1 v2 v3 v4 v6 v7 u n v8 v10).bind Kf = some r) → JW kC (bC G A) A l D0_payAll a (jQ (bC G A) A a none r 0 0) 0 0 u 0 0 103 [(0, pR v0), (1, pI v1), (2, pI v2), (3, pI v3), (4, pL v4), (6, pI v6), (7, pR v7), (8, pL v8), (10, pI v10)] [] := by
  intro n
  induction n with
  | zero => intro v8 v10 hf; exact onb hf
  | succ n ih =>
    intro v8 v10 hf
    unfold f0_payAll_l103 at hf
    refine j_iload dX0_payAll_103 8 rfl ?_
    refine j_iload dX0_payAll_105 5 rfl ?_
    refine j_icmp_ge (w32 v10) (w32 v6) rfl rfl 176 dX0_payAll_107 (by decide) (fun h14 => ?_) (fun h14 => ?_)
    · replace hf := itb h14 hf
      exact j_sub [0, 1, 2, 3, 4, 5, 6, 7] _ rfl (hK0 v8 hf)
    · replace hf := ieb h14 hf
      refine j_lload dX0_payAll_110 7 rfl ?_
      refine j_aload_n dX0_payAll_112 0 rfl ?_
      obtain ⟨x1, hx1, hf⟩ := obb hf
      refine c_geta (ci := 0) (k := 8) hx1 zcl_0 (Nat.le_of_ble_eq_true rfl) zf_X0_92 fk_8 dX0_payAll_113 ?_
      refine j_aload_n dX0_payAll_116 0 rfl ?_
      obtain ⟨x2, hx2, hf⟩ := obb hf
      refine c_geta (ci := 0) (k := 17) hx2 zcl_0 (Nat.le_of_ble_eq_true rfl) zf_X0_131 fk_17 dX0_payAll_117 ?_
      refine j_iload dX0_payAll_120 8 rfl ?_
      obtain ⟨x3, hx3, hf⟩ := obb hf
      refine c_iald hx3 dX0_payAll_122 ?_
      obtain ⟨b4, hb4, hf⟩ := obb hf
      obtain ⟨eb4, tb4⟩ := ztg_s hb4
      obtain ⟨x5, hx5, hf⟩ := obb hf
      refine a_Fr (x := ix_1) [pI x3] [pL v8] (tJ2_get (some b4) x3 u hx5) ⟨q1273, q813, q815, q131, q817⟩ iF_1 df_1 rfl ⟨(Nat.le_of_ble_eq_true rfl), (Nat.le_of_ble_eq_true rfl)⟩ zcl_5 rfl tb4 (by rw [← eb4]; rfl) (Nat.le_of_ble_eq_true rfl) dX0_payAll_123 ⟨Nat.le_refl 0, Nat.le_refl 0⟩ ?_
      obtain ⟨y6, hy6, hf⟩ := obb hf
      refine c_cast hy6 zok_Claim q1642 dX0_payAll_128 ?_
      obtain ⟨x7, hx7, hf⟩ := obb hf
      refine c_getiN (ci := 21) (k := 2) hx7 zcl_21 (Nat.le_of_ble_eq_true rfl) zf_X0_456 fk_842 dX0_payAll_131 ?_
      refine j_sipush dX0_payAll_134 (by decide) ?_
      refine j_idiv dX0_payAll_137 (by decide) ?_
      refine j_aload dX0_payAll_138 6 rfl ?_
      obtain ⟨x8, hx8, hf⟩ := obb hf
      refine c_getiN (ci := 21) (k := 2) hx8 zcl_21 (Nat.le_of_ble_eq_true rfl) zf_X0_456 fk_842 dX0_payAll_140 ?_
      refine j_sipush dX0_payAll_143 (by decide) ?_
      refine j_idiv dX0_payAll_146 (by decide) ?_
      refine j_icmp_ne (w32 (div32 x7 365)) (w32 (div32 x8 365)) rfl rfl 166 dX0_payAll_147 (by decide) (fun h13 => ?_) (fun h13 => ?_)
      · replace hf := ieb h13 hf
        refine j_lconst (z := 0) dX0_payAll_166 rfl ?_
        exact j_sub [0, 1, 2, 3, 4, 5, 6, 8] _ rfl (t0_payAll_b167 (f0_payAll_l103 G v0 v1 v2 v3 v4 v6 v7 u n) ih hK0 v10 v8 0 hf)
      · replace hf := itb h13 hf
        refine j_aload_n dX0_payAll_150 0 rfl ?_
        obtain ⟨x9, hx9, hf⟩ := obb hf
        refine c_geta (ci := 0) (k := 16) hx9 zcl_0 (Nat.le_of_ble_eq_true rfl) zf_X0_128 fk_16 dX0_payAll_151 ?_
        refine j_aload_n dX0_payAll_154 0 rfl ?_
        obtain ⟨x10, hx10, hf⟩ := obb hf
        refine c_geta (ci := 0) (k := 17) hx10 zcl_0 (Nat.le_of_ble_eq_true rfl) zf_X0_131 fk_17 dX0_payAll_155 ?_
        refine j_iload dX0_payAll_158 8 rfl ?_
        obtain ⟨x11, hx11, hf⟩ := obb hf
        refine c_iald hx11 dX0_payAll_160 ?_
        obtain ⟨x12, hx12, hf⟩ := obb hf
        refine c_iald hx12 dX0_payAll_161 ?_
        refine j_i2l dX0_payAll_162 ?_
        refine j_goto 167 dX0_payAll_163 (by decide) ?_
        exact j_sub [0, 1, 2, 3, 4, 5, 6, 8] _ rfl (t0_payAll_b167 (f0_payAll_l103 G v0 v1 v2 v3 v4 v6 v7 u n) ih hK0 v10 v8 (w32 x12) hf)
theorem t0_payAll_l70 {G : CG} {A : Nat → Prop} {l : Launch} {a : List PV} {r : Sg} {Kf : Sg → Option (Sg)} (v0 : Option Nat) (v1 : Int) (v2 : Int) (v3 : Int) (hK0 : ∀ q : Sg, Kf q = some r → JW kC (bC G A) A l D0_payAll a (jQ (bC G A) A a none r 0 0) 0 0 q 0 0 232 [] []) : ∀ (n : Nat) (v4 : Int) (v6 : Int) (u : Sg), ((f0_payAll_l70 G v0 v1 v2 v3 n v4 v6 u).bind Kf = some r) → JW kC (bC G A) A l D0_payAll a (jQ (bC G A) A a none r 0 0) 0 0 u 0 0 70 [(0, pR v0), (1, pI v1), (2, pI v2), (3, pI v3), (4, pL v4), (6, pI v6)] [] := by
  intro n
  induction n with
  | zero => intro v4 v6 u hf; exact onb hf
  | succ n ih =>
    intro v4 v6 u hf
    unfold f0_payAll_l70 at hf
    refine j_iload dX0_payAll_70 5 rfl ?_
    refine j_iload_n dX0_payAll_72 3 rfl ?_
    refine j_icmp_ge (w32 v6) (w32 v3) rfl rfl 232 dX0_payAll_73 (by decide) (fun h18 => ?_) (fun h18 => ?_)
    · replace hf := itb h18 hf
      exact j_sub [] _ rfl (hK0 u hf)
    · replace hf := ieb h18 hf
      refine j_aload_n dX0_payAll_76 0 rfl ?_
      obtain ⟨x1, hx1, hf⟩ := obb hf
      refine c_geta (ci := 0) (k := 8) hx1 zcl_0 (Nat.le_of_ble_eq_true rfl) zf_X0_92 fk_8 dX0_payAll_77 ?_
      refine j_aload_n dX0_payAll_80 0 rfl ?_
      obtain ⟨x2, hx2, hf⟩ := obb hf
      refine c_geta (ci := 0) (k := 17) hx2 zcl_0 (Nat.le_of_ble_eq_true rfl) zf_X0_131 fk_17 dX0_payAll_81 ?_
      refine j_iload dX0_payAll_84 5 rfl ?_
      obtain ⟨x3, hx3, hf⟩ := obb hf
      refine c_iald hx3 dX0_payAll_86 ?_
      obtain ⟨b4, hb4, hf⟩ := obb hf
      obtain ⟨eb4, tb4⟩ := ztg_s hb4
      obtain ⟨x5, hx5, hf⟩ := obb hf
      refine a_Fr (x := ix_1) [pI x3] [] (tJ2_get (some b4) x3 u hx5) ⟨q1273, q813, q815, q131, q817⟩ iF_1 df_1 rfl ⟨(Nat.le_of_ble_eq_true rfl), (Nat.le_of_ble_eq_true rfl)⟩ zcl_5 rfl tb4 (by rw [← eb4]; rfl) (Nat.le_of_ble_eq_true rfl) dX0_payAll_87 ⟨Nat.le_refl 0, Nat.le_refl 0⟩ ?_
      obtain ⟨y6, hy6, hf⟩ := obb hf
      refine c_cast hy6 zok_Claim q1642 dX0_payAll_92 ?_
      refine j_astore dX0_payAll_95 [(7, pR x5), (0, pR v0), (1, pI v1), (2, pI v2), (3, pI v3), (4, pL v4), (6, pI v6)] (Nat.le_of_ble_eq_true rfl) rfl ?_
      refine j_lconst (z := 0) dX0_payAll_97 rfl ?_
      refine j_lstore dX0_payAll_98 [(8, pL 0), (7, pR x5), (0, pR v0), (1, pI v1), (2, pI v2), (3, pI v3), (4, pL v4), (6, pI v6)] (Nat.le_of_ble_eq_true rfl) rfl ?_
      refine j_iconst dX0_payAll_100 ?_
      refine j_istore dX0_payAll_101 [(10, pI 0), (8, pL 0), (7, pR x5), (0, pR v0), (1, pI v1), (2, pI v2), (3, pI v3), (4, pL v4), (6, pI v6)] (Nat.le_of_ble_eq_true rfl) rfl ?_
      replace hf := oba hf
      refine j_sub [3, 4, 5, 6, 7, 8, 2, 1, 0] _ rfl (t0_payAll_l103 v0 v1 v2 v3 v4 v6 x5 u ?_ NN 0 0 hf)
      · intro q7 hf
        refine j_aload_n dX0_payAll_176 0 rfl ?_
        refine j_aload dX0_payAll_177 6 rfl ?_
        refine j_aload_n dX0_payAll_179 0 rfl ?_
        obtain ⟨x8, hx8, hf⟩ := obb hf
        refine c_geta (ci := 0) (k := 7) hx8 zcl_0 (Nat.le_of_ble_eq_true rfl) zf_X0_89 fk_7 dX0_payAll_180 ?_
        refine j_iload_n dX0_payAll_183 1 rfl ?_
        refine j_iconst dX0_payAll_184 ?_
        refine j_isub dX0_payAll_185 ?_
        obtain ⟨b9, hb9, hf⟩ := obb hf
        obtain ⟨eb9, tb9⟩ := ztg_s hb9
        obtain ⟨x10, hx10, hf⟩ := obb hf
        refine a_Fr (x := ix_1) [pI (v1 - 1)] [pR x5, pR v0] (tJ2_get (some b9) (v1 - 1) u hx10) ⟨q1273, q813, q815, q131, q817⟩ iF_1 df_1 rfl ⟨(Nat.le_of_ble_eq_true rfl), (Nat.le_of_ble_eq_true rfl)⟩ zcl_5 rfl tb9 (by rw [← eb9]; rfl) (Nat.le_of_ble_eq_true rfl) dX0_payAll_186 ⟨Nat.le_refl 0, Nat.le_refl 0⟩ ?_
        obtain ⟨y11, hy11, hf⟩ := obb hf
        refine c_cast hy11 zok_Policy q1594 dX0_payAll_191 ?_
        refine j_iload_n dX0_payAll_194 2 rfl ?_
        refine j_lload dX0_payAll_195 4 rfl ?_
        refine j_lload dX0_payAll_197 7 rfl ?_
        obtain ⟨b12, hb12, hf⟩ := obb hf
        obtain ⟨eb12, tb12⟩ := ztg_s hb12
        obtain ⟨q13, hq13, hf⟩ := obb hf
        refine a_Vr [pR x5, pR x10, pI v2, pL v4, pL q7] [] (t0_worth (some b12) x5 x10 v2 v4 q7 u hq13) ⟨q1697, q1699, qs47, q128, q1700⟩ dv0_worth rfl ⟨(Nat.le_of_ble_eq_true rfl), (Nat.le_of_ble_eq_true rfl)⟩ (c_recv zcl_0 tb12) (by rw [← eb12]; rfl) (Nat.le_of_ble_eq_true rfl) dX0_payAll_199 ⟨Nat.le_refl 0, Nat.le_refl 0⟩ ?_
        refine j_lstore dX0_payAll_202 [(10, pL q13.1), (0, pR v0), (1, pI v1), (2, pI v2), (3, pI v3), (4, pL v4), (6, pI v6), (7, pR x5), (8, pL q7)] (Nat.le_of_ble_eq_true rfl) rfl ?_
        refine j_aload_n dX0_payAll_204 1 rfl ?_
        obtain ⟨x14, hx14, hf⟩ := obb hf
        refine c_geta (ci := 0) (k := 16) hx14 zcl_0 (Nat.le_of_ble_eq_true rfl) zf_X0_128 fk_16 dX0_payAll_205 ?_
        refine j_aload_n dX0_payAll_208 1 rfl ?_
        obtain ⟨x15, hx15, hf⟩ := obb hf
        refine c_geta (ci := 0) (k := 17) hx15 zcl_0 (Nat.le_of_ble_eq_true rfl) zf_X0_131 fk_17 dX0_payAll_209 ?_
        refine j_iload dX0_payAll_212 6 rfl ?_
        obtain ⟨x16, hx16, hf⟩ := obb hf
        refine c_iald hx16 dX0_payAll_214 ?_
        refine j_lload dX0_payAll_215 0 rfl ?_
        refine j_l2i dX0_payAll_217 ?_
        obtain ⟨u17, hu17, hf⟩ := obb hf
        refine c_iast hu17 dX0_payAll_218 ?_
        refine j_lload dX0_payAll_219 5 rfl ?_
        refine j_lload dX0_payAll_221 0 rfl ?_
        refine j_ladd dX0_payAll_223 ?_
        refine j_lstore dX0_payAll_224 [(4, pL (v4 + q13.1)), (10, pL q13.1), (0, pR v0), (1, pI v1), (2, pI v2), (3, pI v3), (6, pI v6), (7, pR x5), (8, pL q7)] (Nat.le_of_ble_eq_true rfl) rfl ?_
        refine j_iinc dX0_payAll_226 6 rfl [(6, pI (v6 + 1)), (4, pL (v4 + q13.1)), (10, pL q13.1), (0, pR v0), (1, pI v1), (2, pI v2), (3, pI v3), (7, pR x5), (8, pL q7)] (Nat.le_of_ble_eq_true rfl) rfl ?_
        refine j_goto 70 dX0_payAll_229 (by decide) ?_
        exact j_sub [3, 4, 5, 6, 1, 0] _ rfl (ih (v4 + q13.1) (v6 + 1) u17 hf)
theorem t0_payAll {G : CG} {A : Nat → Prop} {l : Launch} {r : Sg} (v0 : Option Nat) (v1 : Int) (v2 : Int) (u : Sg) (hf : f0_payAll G v0 v1 v2 u = some r) : JM kC (bC G A) A l yX0_payAll D0_payAll [pR v0, pI v1, pI v2] u none r 0 0 := by
  refine j_met (lv0 := [(0, pR v0), (1, pI v1), (2, pI v2)]) ⟨pl_X0, rfl, rfl, (Nat.le_of_ble_eq_true rfl), rfl⟩ ?_
  unfold f0_payAll at hf
  refine j_iconst dX0_payAll_0 ?_
  refine j_istore_n dX0_payAll_1 [(3, pI 0), (0, pR v0), (1, pI v1), (2, pI v2)] (Nat.le_of_ble_eq_true rfl) rfl ?_
  refine j_sub [1, 2, 3, 0] _ rfl (t0_payAll_l2 v0 v1 v2 ?_ NN 0 u hf)
  · intro q1 hf
    refine j_aload_n dX0_payAll_57 0 rfl ?_
    refine j_iload_n dX0_payAll_58 1 rfl ?_
    refine j_iload_n dX0_payAll_59 2 rfl ?_
    obtain ⟨b2, hb2, hf⟩ := ob hf
    obtain ⟨eb2, tb2⟩ := ztg_s hb2
    obtain ⟨q3, hq3, hf⟩ := ob hf
    refine a_Vr [pI v1, pI v2] [] (t0_walk (some b2) v1 v2 q1 hq3) ⟨q1693, q1695, qs46, q128, q1696⟩ dv0_walk rfl ⟨(Nat.le_of_ble_eq_true rfl), (Nat.le_of_ble_eq_true rfl)⟩ (c_recv zcl_0 tb2) (by rw [← eb2]; rfl) (Nat.le_of_ble_eq_true rfl) dX0_payAll_60 ⟨Nat.le_refl 0, Nat.le_refl 0⟩ ?_
    refine j_istore_n dX0_payAll_63 [(3, pI q3.1), (0, pR v0), (1, pI v1), (2, pI v2)] (Nat.le_of_ble_eq_true rfl) rfl ?_
    refine j_lconst (z := 0) dX0_payAll_64 rfl ?_
    refine j_lstore dX0_payAll_65 [(4, pL 0), (3, pI q3.1), (0, pR v0), (1, pI v1), (2, pI v2)] (Nat.le_of_ble_eq_true rfl) rfl ?_
    refine j_iconst dX0_payAll_67 ?_
    refine j_istore dX0_payAll_68 [(6, pI 0), (4, pL 0), (3, pI q3.1), (0, pR v0), (1, pI v1), (2, pI v2)] (Nat.le_of_ble_eq_true rfl) rfl ?_
    refine j_sub [3, 4, 5, 2, 1, 0] _ rfl (t0_payAll_l70 v0 v1 v2 q3.1 ?_ NN 0 0 q3.2 hf)
    · intro q4 hf
      replace hf := Option.some.inj hf
      subst hf
      exact j_return (bC_mv G A) ⟨Nat.le_refl 0, Nat.le_refl 0⟩ rfl dX0_payAll_232

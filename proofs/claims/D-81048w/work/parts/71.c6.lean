theorem t0_pay {G : CG} {A : Nat → Prop} {l : Launch} {r : Int × Sg} (v0 : Option Nat) (v1 : Int) (v2 : Int) (u : Sg) (hf : f0_pay G v0 v1 v2 u = some r) : JM kC (bC G A) A l yX0_pay D0_pay [pR v0, pI v1, pI v2] u (some (pI r.1)) r.2 0 0 := by
  refine j_met (lv0 := [(0, pR v0), (1, pI v1), (2, pI v2)]) ⟨pl_X0, rfl, rfl, (Nat.le_of_ble_eq_true rfl), rfl⟩ ?_
  unfold f0_pay at hf
  refine j_aload_n dX0_pay_0 0 rfl ?_
  refine j_iload_n dX0_pay_1 1 rfl ?_
  obtain ⟨b1, hb1, hf⟩ := ob hf
  obtain ⟨eb1, tb1⟩ := ztg_s hb1
  obtain ⟨x2, hx2, hf⟩ := ob hf
  refine a_Vr [pI v1] [] (t0_isClaim (some b1) v1 u hx2) ⟨q1681, q1683, qs44, q128, q1684⟩ dv0_isClaim rfl ⟨(Nat.le_of_ble_eq_true rfl), (Nat.le_of_ble_eq_true rfl)⟩ (c_recv zcl_0 tb1) (by rw [← eb1]; rfl) (Nat.le_of_ble_eq_true rfl) dX0_pay_2 ⟨Nat.le_refl 0, Nat.le_refl 0⟩ ?_
  refine j_if_ne (w32 x2) rfl 10 dX0_pay_5 (by decide) (fun h14 => ?_) (fun h14 => ?_)
  · replace hf := ie h14 hf
    refine j_iload_n dX0_pay_10 2 rfl ?_
    obtain ⟨x3, hx3, hf⟩ := ob hf
    refine a_Sr [pI v2] [] (t0_isDay v2 u hx3) ⟨q1478, q1479, q128, q1480⟩ dv0_isDay rfl ⟨(Nat.le_of_ble_eq_true rfl), (Nat.le_of_ble_eq_true rfl)⟩ rfl (Nat.le_of_ble_eq_true rfl) dX0_pay_11 ⟨Nat.le_refl 0, Nat.le_refl 0⟩ ?_
    refine j_if_ne (w32 x3) rfl 20 dX0_pay_14 (by decide) (fun h13 => ?_) (fun h13 => ?_)
    · replace hf := ie h13 hf
      refine j_aload_n dX0_pay_20 0 rfl ?_
      refine j_aload_n dX0_pay_21 0 rfl ?_
      obtain ⟨x4, hx4, hf⟩ := ob hf
      refine c_geta (ci := 0) (k := 8) hx4 zcl_0 (Nat.le_of_ble_eq_true rfl) zf_X0_92 fk_8 dX0_pay_22 ?_
      refine j_iload_n dX0_pay_25 1 rfl ?_
      refine j_iconst dX0_pay_26 ?_
      refine j_isub dX0_pay_27 ?_
      obtain ⟨b5, hb5, hf⟩ := ob hf
      obtain ⟨eb5, tb5⟩ := ztg_s hb5
      obtain ⟨x6, hx6, hf⟩ := ob hf
      refine a_Fr (x := ix_1) [pI (v1 - 1)] [pR v0] (tJ2_get (some b5) (v1 - 1) u hx6) ⟨q1273, q813, q815, q131, q817⟩ iF_1 df_1 rfl ⟨(Nat.le_of_ble_eq_true rfl), (Nat.le_of_ble_eq_true rfl)⟩ zcl_5 rfl tb5 (by rw [← eb5]; rfl) (Nat.le_of_ble_eq_true rfl) dX0_pay_28 ⟨Nat.le_refl 0, Nat.le_refl 0⟩ ?_
      obtain ⟨y7, hy7, hf⟩ := ob hf
      refine c_cast hy7 zok_Claim q1642 dX0_pay_33 ?_
      obtain ⟨x8, hx8, hf⟩ := ob hf
      refine c_getiN (ci := 21) (k := 0) hx8 zcl_21 (Nat.le_of_ble_eq_true rfl) zf_X0_452 fk_840 dX0_pay_36 ?_
      refine j_iload_n dX0_pay_39 2 rfl ?_
      obtain ⟨b9, hb9, hf⟩ := ob hf
      obtain ⟨eb9, tb9⟩ := ztg_s hb9
      obtain ⟨u10, hu10, hf⟩ := ob hf
      refine a_Vv [pI x8, pI v2] [] (t0_payAll (some b9) x8 v2 u hu10) ⟨q1689, q1691, qs45, q128, q1692⟩ dv0_payAll rfl ⟨(Nat.le_of_ble_eq_true rfl), (Nat.le_of_ble_eq_true rfl)⟩ (c_recv zcl_0 tb9) (by rw [← eb9]; rfl) (Nat.le_of_ble_eq_true rfl) dX0_pay_40 ⟨Nat.le_refl 0, Nat.le_refl 0⟩ ?_
      refine j_aload_n dX0_pay_43 0 rfl ?_
      obtain ⟨x11, hx11, hf⟩ := ob hf
      refine c_geta (ci := 0) (k := 16) hx11 zcl_0 (Nat.le_of_ble_eq_true rfl) zf_X0_128 fk_16 dX0_pay_44 ?_
      refine j_iload_n dX0_pay_47 1 rfl ?_
      refine j_iconst dX0_pay_48 ?_
      refine j_isub dX0_pay_49 ?_
      obtain ⟨x12, hx12, hf⟩ := ob hf
      refine c_iald hx12 dX0_pay_50 ?_
      replace hf := Option.some.inj hf
      subst hf
      exact j_ireturn (bC_mv G A) ⟨Nat.le_refl 0, Nat.le_refl 0⟩ rfl dX0_pay_51
    · replace hf := it h13 hf
      refine j_bipush dX0_pay_17 (by decide) ?_
      replace hf := Option.some.inj hf
      subst hf
      exact j_ireturn (bC_mv G A) ⟨Nat.le_refl 0, Nat.le_refl 0⟩ rfl dX0_pay_19
  · replace hf := it h14 hf
    refine j_iconst dX0_pay_8 ?_
    replace hf := Option.some.inj hf
    subst hf
    exact j_ireturn (bC_mv G A) ⟨Nat.le_refl 0, Nat.le_refl 0⟩ rfl dX0_pay_9
theorem t0_used_b102 {G : CG} {A : Nat → Prop} {l : Launch} {a : List PV} {r : Int × Sg} {Kf : Int → Option (Int × Sg)} {v0 : Option Nat} {v1 : Int} {v2 : Int} {u : Sg} (kh : Int → Int → Option (Int)) (hkh : ∀ (z4 : Int) (z6 : Int), ((kh z4 z6).bind Kf = some r) → JW kC (bC G A) A l D0_used a (jQ (bC G A) A a (some (pL r.1)) r.2 0 0) 0 0 u 0 0 46 [(0, pR v0), (1, pI v1), (2, pI v2), (4, pL z4), (6, pI z6)] []) (hK0 : ∀ q : Int, Kf q = some r → JW kC (bC G A) A l D0_used a (jQ (bC G A) A a (some (pL r.1)) r.2 0 0) 0 0 u 0 0 121 [(4, pL q)] []) (v4 : Int) (v6 : Int) (hf : (f0_used_b102 G kh v0 v1 v2 v4 v6 u).bind Kf = some r) : JW kC (bC G A) A l D0_used a (jQ (bC G A) A a (some (pL r.1)) r.2 0 0) 0 0 u 0 0 102 [(0, pR v0), (1, pI v1), (2, pI v2), (4, pL v4), (6, pI v6)] [] := by
  unfold f0_used_b102 at hf
  refine j_lload dX0_used_102 3 rfl ?_
  refine j_aload_n dX0_used_104 0 rfl ?_
  obtain ⟨x1, hx1, hf⟩ := obb hf
  refine c_geta (ci := 0) (k := 16) hx1 zcl_0 (Nat.le_of_ble_eq_true rfl) zf_X0_128 fk_16 dX0_used_105 ?_
  refine j_iload dX0_used_108 4 rfl ?_
  obtain ⟨x2, hx2, hf⟩ := obb hf
  refine c_iald hx2 dX0_used_110 ?_
  refine j_i2l dX0_used_111 ?_
  refine j_ladd dX0_used_112 ?_
  refine j_lstore dX0_used_113 [(4, pL (v4 + (w32 x2))), (0, pR v0), (1, pI v1), (2, pI v2), (6, pI v6)] (Nat.le_of_ble_eq_true rfl) rfl ?_
  refine j_iinc dX0_used_115 4 rfl [(6, pI (v6 + 1)), (4, pL (v4 + (w32 x2))), (0, pR v0), (1, pI v1), (2, pI v2)] (Nat.le_of_ble_eq_true rfl) rfl ?_
  refine j_goto 46 dX0_used_118 (by decide) ?_
  exact j_sub [2, 3, 4, 1, 0] _ rfl (hkh (v4 + (w32 x2)) (v6 + 1) hf)
theorem t0_used_l46 {G : CG} {A : Nat → Prop} {l : Launch} {a : List PV} {r : Int × Sg} {Kf : Int → Option (Int × Sg)} (v0 : Option Nat) (v1 : Int) (v2 : Int) (u : Sg) (hK0 : ∀ q : Int, Kf q = some r → JW kC (bC G A) A l D0_used a (jQ (bC G A) A a (some (pL r.1)) r.2 0 0) 0 0 u 0 0 121 [(4, pL q)] []) : ∀ (n : Nat) (v4 : Int) (v6 : Int), ((f0_used_l46 G v0 v1 v2 u n v4 v6).bind Kf = some r) → JW kC (bC G A) A l D0_used a (jQ (bC G A) A a (some (pL r.1)) r.2 0 0) 0 0 u 0 0 46 [(0, pR v0), (1, pI v1), (2, pI v2), (4, pL v4), (6, pI v6)] [] := by
  intro n
  induction n with
  | zero => intro v4 v6 hf; exact onb hf
  | succ n ih =>
    intro v4 v6 hf
    unfold f0_used_l46 at hf
    refine j_iload dX0_used_46 4 rfl ?_
    refine j_aload_n dX0_used_48 0 rfl ?_
    obtain ⟨x1, hx1, hf⟩ := obb hf
    refine c_geta (ci := 0) (k := 8) hx1 zcl_0 (Nat.le_of_ble_eq_true rfl) zf_X0_92 fk_8 dX0_used_49 ?_
    obtain ⟨b2, hb2, hf⟩ := obb hf
    obtain ⟨eb2, tb2⟩ := ztg_s hb2
    obtain ⟨x3, hx3, hf⟩ := obb hf
    refine a_Fr (x := ix_0) [] [pI v6] (tJ2_size (some b2) u hx3) ⟨q556, q559, q561, q131, q563⟩ iF_0 df_0 rfl ⟨(Nat.le_of_ble_eq_true rfl), (Nat.le_of_ble_eq_true rfl)⟩ zcl_5 rfl tb2 (by rw [← eb2]; rfl) (Nat.le_of_ble_eq_true rfl) dX0_used_52 ⟨Nat.le_refl 0, Nat.le_refl 0⟩ ?_
    refine j_icmp_ge (w32 v6) (w32 x3) rfl rfl 121 dX0_used_57 (by decide) (fun h13 => ?_) (fun h13 => ?_)
    · replace hf := itb h13 hf
      exact j_sub [3] _ rfl (hK0 v4 hf)
    · replace hf := ieb h13 hf
      refine j_aload_n dX0_used_60 0 rfl ?_
      obtain ⟨x4, hx4, hf⟩ := obb hf
      refine c_geta (ci := 0) (k := 8) hx4 zcl_0 (Nat.le_of_ble_eq_true rfl) zf_X0_92 fk_8 dX0_used_61 ?_
      refine j_iload dX0_used_64 4 rfl ?_
      obtain ⟨b5, hb5, hf⟩ := obb hf
      obtain ⟨eb5, tb5⟩ := ztg_s hb5
      obtain ⟨x6, hx6, hf⟩ := obb hf
      refine a_Fr (x := ix_1) [pI v6] [] (tJ2_get (some b5) v6 u hx6) ⟨q1273, q813, q815, q131, q817⟩ iF_1 df_1 rfl ⟨(Nat.le_of_ble_eq_true rfl), (Nat.le_of_ble_eq_true rfl)⟩ zcl_5 rfl tb5 (by rw [← eb5]; rfl) (Nat.le_of_ble_eq_true rfl) dX0_used_66 ⟨Nat.le_refl 0, Nat.le_refl 0⟩ ?_
      obtain ⟨y7, hy7, hf⟩ := obb hf
      refine c_cast hy7 zok_Claim q1642 dX0_used_71 ?_
      refine j_astore dX0_used_74 [(7, pR x6), (0, pR v0), (1, pI v1), (2, pI v2), (4, pL v4), (6, pI v6)] (Nat.le_of_ble_eq_true rfl) rfl ?_
      refine j_aload dX0_used_76 0 rfl ?_
      obtain ⟨x8, hx8, hf⟩ := obb hf
      refine c_getiN (ci := 21) (k := 0) hx8 zcl_21 (Nat.le_of_ble_eq_true rfl) zf_X0_452 fk_840 dX0_used_78 ?_
      refine j_iload_n dX0_used_81 2 rfl ?_
      refine j_icmp_ne (w32 x8) (w32 v1) rfl rfl 115 dX0_used_82 (by decide) (fun h12 => ?_) (fun h12 => ?_)
      · replace hf := ieb h12 hf
        refine j_iinc dX0_used_115 5 rfl [(6, pI (v6 + 1)), (7, pR x6), (0, pR v0), (1, pI v1), (2, pI v2), (4, pL v4)] (Nat.le_of_ble_eq_true rfl) rfl ?_
        refine j_goto 46 dX0_used_118 (by decide) ?_
        exact j_sub [2, 3, 4, 5, 0] _ rfl (ih v4 (v6 + 1) hf)
      · replace hf := itb h12 hf
        refine j_iload_n dX0_used_85 3 rfl ?_
        refine j_if_lt (w32 v2) rfl 102 dX0_used_86 (by decide) (fun h11 => ?_) (fun h11 => ?_)
        · replace hf := itb h11 hf
          exact j_sub [1, 2, 3, 4, 5] _ rfl (t0_used_b102 (f0_used_l46 G v0 v1 v2 u n) ih hK0 v4 v6 hf)
        · replace hf := ieb h11 hf
          refine j_aload dX0_used_89 0 rfl ?_
          obtain ⟨x9, hx9, hf⟩ := obb hf
          refine c_getiN (ci := 21) (k := 2) hx9 zcl_21 (Nat.le_of_ble_eq_true rfl) zf_X0_456 fk_842 dX0_used_91 ?_
          refine j_sipush dX0_used_94 (by decide) ?_
          refine j_idiv dX0_used_97 (by decide) ?_
          refine j_iload_n dX0_used_98 3 rfl ?_
          refine j_icmp_ne (w32 (div32 x9 365)) (w32 v2) rfl rfl 115 dX0_used_99 (by decide) (fun h10 => ?_) (fun h10 => ?_)
          · replace hf := ieb h10 hf
            refine j_iinc dX0_used_115 5 rfl [(6, pI (v6 + 1)), (7, pR x6), (0, pR v0), (1, pI v1), (2, pI v2), (4, pL v4)] (Nat.le_of_ble_eq_true rfl) rfl ?_
            refine j_goto 46 dX0_used_118 (by decide) ?_
            exact j_sub [2, 3, 4, 5, 0] _ rfl (ih v4 (v6 + 1) hf)
          · replace hf := itb h10 hf
            exact j_sub [1, 2, 3, 4, 5] _ rfl (t0_used_b102 (f0_used_l46 G v0 v1 v2 u n) ih hK0 v4 v6 hf)
theorem t0_used {G : CG} {A : Nat → Prop} {l : Launch} {r : Int × Sg} (v0 : Option Nat) (v1 : Int) (v2 : Int) (v3 : Int) (u : Sg) (hf : f0_used G v0 v1 v2 v3 u = some r) : JM kC (bC G A) A l yX0_used D0_used [pR v0, pI v1, pI v2, pI v3] u (some (pL r.1)) r.2 0 0 := by
  refine j_met (lv0 := [(0, pR v0), (1, pI v1), (2, pI v2), (3, pI v3)]) ⟨pl_X0, rfl, rfl, (Nat.le_of_ble_eq_true rfl), rfl⟩ ?_
  unfold f0_used at hf
  refine j_aload_n dX0_used_0 0 rfl ?_
  refine j_iload_n dX0_used_1 1 rfl ?_
  obtain ⟨b1, hb1, hf⟩ := ob hf
  obtain ⟨eb1, tb1⟩ := ztg_s hb1
  obtain ⟨x2, hx2, hf⟩ := ob hf
  refine a_Vr [pI v1] [] (t0_isPolicy (some b1) v1 u hx2) ⟨q1625, q1627, qs43, q128, q1628⟩ dv0_isPolicy rfl ⟨(Nat.le_of_ble_eq_true rfl), (Nat.le_of_ble_eq_true rfl)⟩ (c_recv zcl_0 tb1) (by rw [← eb1]; rfl) (Nat.le_of_ble_eq_true rfl) dX0_used_2 ⟨Nat.le_refl 0, Nat.le_refl 0⟩ ?_
  refine j_if_ne (w32 x2) rfl 12 dX0_used_5 (by decide) (fun h10 => ?_) (fun h10 => ?_)
  · replace hf := ie h10 hf
    refine j_iload_n dX0_used_12 2 rfl ?_
    refine j_iconst dX0_used_13 ?_
    refine j_icmp_lt (w32 v2) (-1) rfl rfl 30 dX0_used_14 (by decide) (fun h9 => ?_) (fun h9 => ?_)
    · replace hf := it h9 hf
      refine j_ldc2 (z := (-2)) q1711 (by decide) dX0_used_30 ?_
      replace hf := Option.some.inj hf
      subst hf
      exact j_lreturn (bC_mv G A) ⟨Nat.le_refl 0, Nat.le_refl 0⟩ rfl dX0_used_33
    · replace hf := ie h9 hf
      refine j_iload_n dX0_used_17 2 rfl ?_
      refine j_bipush dX0_used_18 (by decide) ?_
      refine j_icmp_gt (w32 v2) 27 rfl rfl 30 dX0_used_20 (by decide) (fun h8 => ?_) (fun h8 => ?_)
      · replace hf := it h8 hf
        refine j_ldc2 (z := (-2)) q1711 (by decide) dX0_used_30 ?_
        replace hf := Option.some.inj hf
        subst hf
        exact j_lreturn (bC_mv G A) ⟨Nat.le_refl 0, Nat.le_refl 0⟩ rfl dX0_used_33
      · replace hf := ie h8 hf
        refine j_iload_n dX0_used_23 3 rfl ?_
        obtain ⟨x3, hx3, hf⟩ := ob hf
        refine a_Sr [pI v3] [] (t0_isDay v3 u hx3) ⟨q1478, q1479, q128, q1480⟩ dv0_isDay rfl ⟨(Nat.le_of_ble_eq_true rfl), (Nat.le_of_ble_eq_true rfl)⟩ rfl (Nat.le_of_ble_eq_true rfl) dX0_used_24 ⟨Nat.le_refl 0, Nat.le_refl 0⟩ ?_
        refine j_if_ne (w32 x3) rfl 34 dX0_used_27 (by decide) (fun h7 => ?_) (fun h7 => ?_)
        · replace hf := ie h7 hf
          refine j_aload_n dX0_used_34 0 rfl ?_
          refine j_iload_n dX0_used_35 1 rfl ?_
          refine j_iload_n dX0_used_36 3 rfl ?_
          obtain ⟨b4, hb4, hf⟩ := ob hf
          obtain ⟨eb4, tb4⟩ := ztg_s hb4
          obtain ⟨u5, hu5, hf⟩ := ob hf
          refine a_Vv [pI v1, pI v3] [] (t0_payAll (some b4) v1 v3 u hu5) ⟨q1689, q1691, qs45, q128, q1692⟩ dv0_payAll rfl ⟨(Nat.le_of_ble_eq_true rfl), (Nat.le_of_ble_eq_true rfl)⟩ (c_recv zcl_0 tb4) (by rw [← eb4]; rfl) (Nat.le_of_ble_eq_true rfl) dX0_used_37 ⟨Nat.le_refl 0, Nat.le_refl 0⟩ ?_
          refine j_lconst (z := 0) dX0_used_40 rfl ?_
          refine j_lstore dX0_used_41 [(4, pL 0), (0, pR v0), (1, pI v1), (2, pI v2), (3, pI v3)] (Nat.le_of_ble_eq_true rfl) rfl ?_
          refine j_iconst dX0_used_43 ?_
          refine j_istore dX0_used_44 [(6, pI 0), (4, pL 0), (0, pR v0), (1, pI v1), (2, pI v2), (3, pI v3)] (Nat.le_of_ble_eq_true rfl) rfl ?_
          refine j_sub [2, 3, 4, 1, 0] _ rfl (t0_used_l46 v0 v1 v2 u5 ?_ NN 0 0 hf)
          · intro q6 hf
            refine j_lload dX0_used_121 0 rfl ?_
            replace hf := Option.some.inj hf
            subst hf
            exact j_lreturn (bC_mv G A) ⟨Nat.le_refl 0, Nat.le_refl 0⟩ rfl dX0_used_123
        · replace hf := it h7 hf
          refine j_ldc2 (z := (-2)) q1711 (by decide) dX0_used_30 ?_
          replace hf := Option.some.inj hf
          subst hf
          exact j_lreturn (bC_mv G A) ⟨Nat.le_refl 0, Nat.le_refl 0⟩ rfl dX0_used_33
  · replace hf := it h10 hf
    refine j_ldc2 (z := (-1)) q1710 (by decide) dX0_used_8 ?_
    replace hf := Option.some.inj hf
    subst hf
    exact j_lreturn (bC_mv G A) ⟨Nat.le_refl 0, Nat.le_refl 0⟩ rfl dX0_used_11
theorem t0_treaty_b49 {G : CG} {A : Nat → Prop} {l : Launch} {a : List PV} {r : Int × Sg} (v0 : Option Nat) (v1 : Int) (v2 : Int) (v3 : Int) (u : Sg) (hf : f0_treaty_b49 G v0 v1 v2 v3 u = some r) : JW kC (bC G A) A l D0_treaty a (jQ (bC G A) A a (some (pI r.1)) r.2 0 0) 0 0 u 0 0 49 [(0, pR v0), (1, pI v1), (2, pI v2), (3, pI v3)] [] := by
  unfold f0_treaty_b49 at hf
  refine j_aload_n dX0_treaty_49 0 rfl ?_
  obtain ⟨x1, hx1, hf⟩ := ob hf
  refine c_geti (ci := 0) (k := 12) hx1 zcl_0 (Nat.le_of_ble_eq_true rfl) zf_X0_486 fk_12 dX0_treaty_50 ?_
  refine j_bipush dX0_treaty_53 (by decide) ?_
  refine j_icmp_ne (w32 x1) 6 rfl rfl 61 dX0_treaty_55 (by decide) (fun h13 => ?_) (fun h13 => ?_)
  · replace hf := ie h13 hf
    refine j_aload_n dX0_treaty_61 0 rfl ?_
    obtain ⟨x2, hx2, hf⟩ := ob hf
    refine c_geta (ci := 0) (k := 9) hx2 zcl_0 (Nat.le_of_ble_eq_true rfl) zf_X0_95 fk_9 dX0_treaty_62 ?_
    refine j_aload_n dX0_treaty_65 0 rfl ?_
    obtain ⟨x3, hx3, hf⟩ := ob hf
    refine c_geti (ci := 0) (k := 12) hx3 zcl_0 (Nat.le_of_ble_eq_true rfl) zf_X0_486 fk_12 dX0_treaty_66 ?_
    refine j_iload_n dX0_treaty_69 1 rfl ?_
    obtain ⟨u4, hu4, hf⟩ := ob hf
    refine c_iast hu4 dX0_treaty_70 ?_
    refine j_aload_n dX0_treaty_71 0 rfl ?_
    obtain ⟨x5, hx5, hf⟩ := ob hf
    refine c_geta (ci := 0) (k := 10) hx5 zcl_0 (Nat.le_of_ble_eq_true rfl) zf_X0_99 fk_10 dX0_treaty_72 ?_
    refine j_aload_n dX0_treaty_75 0 rfl ?_
    obtain ⟨x6, hx6, hf⟩ := ob hf
    refine c_geti (ci := 0) (k := 12) hx6 zcl_0 (Nat.le_of_ble_eq_true rfl) zf_X0_486 fk_12 dX0_treaty_76 ?_
    refine j_iload_n dX0_treaty_79 2 rfl ?_
    obtain ⟨u7, hu7, hf⟩ := ob hf
    refine c_iast hu7 dX0_treaty_80 ?_
    refine j_aload_n dX0_treaty_81 0 rfl ?_
    obtain ⟨x8, hx8, hf⟩ := ob hf
    refine c_geta (ci := 0) (k := 11) hx8 zcl_0 (Nat.le_of_ble_eq_true rfl) zf_X0_102 fk_11 dX0_treaty_82 ?_
    refine j_aload_n dX0_treaty_85 0 rfl ?_
    obtain ⟨x9, hx9, hf⟩ := ob hf
    refine c_geti (ci := 0) (k := 12) hx9 zcl_0 (Nat.le_of_ble_eq_true rfl) zf_X0_486 fk_12 dX0_treaty_86 ?_
    refine j_iload_n dX0_treaty_89 3 rfl ?_
    obtain ⟨u10, hu10, hf⟩ := ob hf
    refine c_iast hu10 dX0_treaty_90 ?_
    refine j_aload_n dX0_treaty_91 0 rfl ?_
    refine j_dup dX0_treaty_92 rfl ?_
    obtain ⟨x11, hx11, hf⟩ := ob hf
    refine c_geti (ci := 0) (k := 12) hx11 zcl_0 (Nat.le_of_ble_eq_true rfl) zf_X0_486 fk_12 dX0_treaty_93 ?_
    refine j_dup_x1 dX0_treaty_96 rfl rfl ?_
    refine j_iconst dX0_treaty_97 ?_
    refine j_iadd dX0_treaty_98 ?_
    obtain ⟨u12, hu12, hf⟩ := ob hf
    refine c_puti (ci := 0) (k := 12) hu12 zcl_0 (Nat.le_of_ble_eq_true rfl) zf_X0_486 fk_12 rfl fits_I dX0_treaty_99 ?_
    replace hf := Option.some.inj hf
    subst hf
    exact j_ireturn (bC_mv G A) ⟨Nat.le_refl 0, Nat.le_refl 0⟩ rfl dX0_treaty_102
  · replace hf := it h13 hf
    refine j_bipush dX0_treaty_58 (by decide) ?_
    replace hf := Option.some.inj hf
    subst hf
    exact j_ireturn (bC_mv G A) ⟨Nat.le_refl 0, Nat.le_refl 0⟩ rfl dX0_treaty_60
theorem t0_treaty_b27 {G : CG} {A : Nat → Prop} {l : Launch} {a : List PV} {r : Int × Sg} (v0 : Option Nat) (v1 : Int) (v2 : Int) (v3 : Int) (s0 : Int) (s1 : Int) (u : Sg) (hf : f0_treaty_b27 G v0 v1 v2 v3 s0 s1 u = some r) : JW kC (bC G A) A l D0_treaty a (jQ (bC G A) A a (some (pI r.1)) r.2 0 0) 0 0 u 0 0 27 [(0, pR v0), (1, pI v1), (2, pI v2), (3, pI v3)] [pI s1, pI s0] := by
  unfold f0_treaty_b27 at hf
  refine j_icmp_gt (w32 s0) (w32 s1) rfl rfl 46 dX0_treaty_27 (by decide) (fun h4 => ?_) (fun h4 => ?_)
  · replace hf := it h4 hf
    refine j_bipush dX0_treaty_46 (by decide) ?_
    replace hf := Option.some.inj hf
    subst hf
    exact j_ireturn (bC_mv G A) ⟨Nat.le_refl 0, Nat.le_refl 0⟩ rfl dX0_treaty_48
  · replace hf := ie h4 hf
    refine j_iload_n dX0_treaty_30 1 rfl ?_
    refine j_iconst dX0_treaty_31 ?_
    refine j_icmp_ne (w32 v1) 1 rfl rfl 49 dX0_treaty_32 (by decide) (fun h3 => ?_) (fun h3 => ?_)
    · replace hf := ie h3 hf
      exact j_sub [0, 1, 2, 3] _ rfl (t0_treaty_b49 v0 v1 v2 v3 u hf)
    · replace hf := it h3 hf
      refine j_iload_n dX0_treaty_35 3 rfl ?_
      refine j_if_lt (w32 v3) rfl 46 dX0_treaty_36 (by decide) (fun h2 => ?_) (fun h2 => ?_)
      · replace hf := it h2 hf
        refine j_bipush dX0_treaty_46 (by decide) ?_
        replace hf := Option.some.inj hf
        subst hf
        exact j_ireturn (bC_mv G A) ⟨Nat.le_refl 0, Nat.le_refl 0⟩ rfl dX0_treaty_48
      · replace hf := ie h2 hf
        refine j_iload_n dX0_treaty_39 3 rfl ?_
        refine j_ldcw (z := 99999999) q1629 (by decide) dX0_treaty_40 ?_
        refine j_icmp_le (w32 v3) 99999999 rfl rfl 49 dX0_treaty_43 (by decide) (fun h1 => ?_) (fun h1 => ?_)
        · replace hf := it h1 hf
          exact j_sub [0, 1, 2, 3] _ rfl (t0_treaty_b49 v0 v1 v2 v3 u hf)
        · replace hf := ie h1 hf
          refine j_bipush dX0_treaty_46 (by decide) ?_
          replace hf := Option.some.inj hf
          subst hf
          exact j_ireturn (bC_mv G A) ⟨Nat.le_refl 0, Nat.le_refl 0⟩ rfl dX0_treaty_48
theorem t0_treaty {G : CG} {A : Nat → Prop} {l : Launch} {r : Int × Sg} (v0 : Option Nat) (v1 : Int) (v2 : Int) (v3 : Int) (u : Sg) (hf : f0_treaty G v0 v1 v2 v3 u = some r) : JM kC (bC G A) A l yX0_treaty D0_treaty [pR v0, pI v1, pI v2, pI v3] u (some (pI r.1)) r.2 0 0 := by
  refine j_met (lv0 := [(0, pR v0), (1, pI v1), (2, pI v2), (3, pI v3)]) ⟨pl_X0, rfl, rfl, (Nat.le_of_ble_eq_true rfl), rfl⟩ ?_
  unfold f0_treaty at hf
  refine j_iload_n dX0_treaty_0 1 rfl ?_
  refine j_if_lt (w32 v1) rfl 46 dX0_treaty_1 (by decide) (fun h4 => ?_) (fun h4 => ?_)
  · replace hf := it h4 hf
    refine j_bipush dX0_treaty_46 (by decide) ?_
    replace hf := Option.some.inj hf
    subst hf
    exact j_ireturn (bC_mv G A) ⟨Nat.le_refl 0, Nat.le_refl 0⟩ rfl dX0_treaty_48
  · replace hf := ie h4 hf
    refine j_iload_n dX0_treaty_4 1 rfl ?_
    refine j_iconst dX0_treaty_5 ?_
    refine j_icmp_gt (w32 v1) 1 rfl rfl 46 dX0_treaty_6 (by decide) (fun h3 => ?_) (fun h3 => ?_)
    · replace hf := it h3 hf
      refine j_bipush dX0_treaty_46 (by decide) ?_
      replace hf := Option.some.inj hf
      subst hf
      exact j_ireturn (bC_mv G A) ⟨Nat.le_refl 0, Nat.le_refl 0⟩ rfl dX0_treaty_48
    · replace hf := ie h3 hf
      refine j_iload_n dX0_treaty_9 2 rfl ?_
      refine j_if_lt (w32 v2) rfl 46 dX0_treaty_10 (by decide) (fun h2 => ?_) (fun h2 => ?_)
      · replace hf := it h2 hf
        refine j_bipush dX0_treaty_46 (by decide) ?_
        replace hf := Option.some.inj hf
        subst hf
        exact j_ireturn (bC_mv G A) ⟨Nat.le_refl 0, Nat.le_refl 0⟩ rfl dX0_treaty_48
      · replace hf := ie h2 hf
        refine j_iload_n dX0_treaty_13 2 rfl ?_
        refine j_iload_n dX0_treaty_14 1 rfl ?_
        refine j_if_ne (w32 v1) rfl 24 dX0_treaty_15 (by decide) (fun h1 => ?_) (fun h1 => ?_)
        · replace hf := ie h1 hf
          refine j_ldcw (z := 99999999) q1629 (by decide) dX0_treaty_24 ?_
          exact j_sub [0, 1, 2, 3] _ rfl (t0_treaty_b27 v0 v1 v2 v3 v2 99999999 u hf)
        · replace hf := it h1 hf
          refine j_sipush dX0_treaty_18 (by decide) ?_
          refine j_goto 27 dX0_treaty_21 (by decide) ?_
          exact j_sub [0, 1, 2, 3] _ rfl (t0_treaty_b27 v0 v1 v2 v3 v2 1000 u hf)
theorem t0_taken_b66 {G : CG} {A : Nat → Prop} {l : Launch} {a : List PV} {r : Int} {Kf : (Int) ⊕ (Int) → Option (Int)} {v0 : Option Nat} {v2 : Int} {u : Sg} (kh : Int → Int → Option ((Int) ⊕ (Int))) (hkh : ∀ (z3 : Int) (z4 : Int), ((kh z3 z4).bind Kf = some r) → JW kC (bC G A) A l D0_taken a (jQ (bC G A) A a (some (pI r)) u 0 0) 0 0 u 0 0 5 [(0, pR v0), (2, pI v2), (3, pI z3), (4, pI z4)] []) (hK0 : ∀ q : Int, Kf (.inl q) = some r → JW kC (bC G A) A l D0_taken a (jQ (bC G A) A a (some (pI r)) u 0 0) 0 0 u 0 0 74 [(5, pL q)] []) (hK1 : ∀ q : Int, Kf (.inr q) = some r → JW kC (bC G A) A l D0_taken a (jQ (bC G A) A a (some (pI r)) u 0 0) 0 0 u 0 0 90 [(3, pI q)] []) (v3 : Int) (v4 : Int) (s0 : Int) (hf : (f0_taken_b66 G kh v0 v2 v3 v4 s0 u).bind Kf = some r) : JW kC (bC G A) A l D0_taken a (jQ (bC G A) A a (some (pI r)) u 0 0) 0 0 u 0 0 66 [(0, pR v0), (2, pI v2), (3, pI v3), (4, pI v4)] [pL s0] := by
  unfold f0_taken_b66 at hf
  refine j_lstore dX0_taken_66 [(5, pL s0), (0, pR v0), (2, pI v2), (3, pI v3), (4, pI v4)] (Nat.le_of_ble_eq_true rfl) rfl ?_
  refine j_iload dX0_taken_68 4 rfl ?_
  refine j_iload_n dX0_taken_70 2 rfl ?_
  refine j_icmp_ne (w32 v4) (w32 v2) rfl rfl 78 dX0_taken_71 (by decide) (fun h1 => ?_) (fun h1 => ?_)
  · replace hf := ieb h1 hf
    refine j_iload_n dX0_taken_78 3 rfl ?_
    refine j_lload dX0_taken_79 0 rfl ?_
    refine j_l2i dX0_taken_81 ?_
    refine j_isub dX0_taken_82 ?_
    refine j_istore_n dX0_taken_83 [(3, pI (v3 - s0)), (5, pL s0), (0, pR v0), (2, pI v2), (4, pI v4)] (Nat.le_of_ble_eq_true rfl) rfl ?_
    refine j_iinc dX0_taken_84 4 rfl [(4, pI (v4 + 1)), (3, pI (v3 - s0)), (5, pL s0), (0, pR v0), (2, pI v2)] (Nat.le_of_ble_eq_true rfl) rfl ?_
    refine j_goto 5 dX0_taken_87 (by decide) ?_
    exact j_sub [3, 4, 1, 0] _ rfl (hkh (v3 - s0) (v4 + 1) hf)
  · replace hf := itb h1 hf
    exact j_sub [0] _ rfl (hK0 s0 hf)
theorem t0_taken_l5 {G : CG} {A : Nat → Prop} {l : Launch} {a : List PV} {r : Int} {Kf : (Int) ⊕ (Int) → Option (Int)} (v0 : Option Nat) (v2 : Int) (u : Sg) (hK0 : ∀ q : Int, Kf (.inl q) = some r → JW kC (bC G A) A l D0_taken a (jQ (bC G A) A a (some (pI r)) u 0 0) 0 0 u 0 0 74 [(5, pL q)] []) (hK1 : ∀ q : Int, Kf (.inr q) = some r → JW kC (bC G A) A l D0_taken a (jQ (bC G A) A a (some (pI r)) u 0 0) 0 0 u 0 0 90 [(3, pI q)] []) : ∀ (n : Nat) (v3 : Int) (v4 : Int), ((f0_taken_l5 G v0 v2 u n v3 v4).bind Kf = some r) → JW kC (bC G A) A l D0_taken a (jQ (bC G A) A a (some (pI r)) u 0 0) 0 0 u 0 0 5 [(0, pR v0), (2, pI v2), (3, pI v3), (4, pI v4)] [] := by
  intro n
  induction n with
  | zero => intro v3 v4 hf; exact onb hf
  | succ n ih =>
    intro v3 v4 hf
    unfold f0_taken_l5 at hf
    refine j_iload dX0_taken_5 3 rfl ?_
    refine j_aload_n dX0_taken_7 0 rfl ?_
    obtain ⟨x1, hx1, hf⟩ := obb hf
    refine c_geti (ci := 0) (k := 12) hx1 zcl_0 (Nat.le_of_ble_eq_true rfl) zf_X0_486 fk_12 dX0_taken_8 ?_
    refine j_icmp_ge (w32 v4) (w32 x1) rfl rfl 90 dX0_taken_11 (by decide) (fun h11 => ?_) (fun h11 => ?_)
    · replace hf := itb h11 hf
      exact j_sub [2] _ rfl (hK1 v3 hf)
    · replace hf := ieb h11 hf
      refine j_aload_n dX0_taken_14 0 rfl ?_
      obtain ⟨x2, hx2, hf⟩ := obb hf
      refine c_geta (ci := 0) (k := 9) hx2 zcl_0 (Nat.le_of_ble_eq_true rfl) zf_X0_95 fk_9 dX0_taken_15 ?_
      refine j_iload dX0_taken_18 3 rfl ?_
      obtain ⟨x3, hx3, hf⟩ := obb hf
      refine c_iald hx3 dX0_taken_20 ?_
      refine j_if_ne (w32 x3) rfl 42 dX0_taken_21 (by decide) (fun h10 => ?_) (fun h10 => ?_)
      · replace hf := ieb h10 hf
        refine j_aload_n dX0_taken_42 0 rfl ?_
        obtain ⟨x4, hx4, hf⟩ := obb hf
        refine c_geta (ci := 0) (k := 11) hx4 zcl_0 (Nat.le_of_ble_eq_true rfl) zf_X0_102 fk_11 dX0_taken_43 ?_
        refine j_iload dX0_taken_46 3 rfl ?_
        obtain ⟨x5, hx5, hf⟩ := obb hf
        refine c_iald hx5 dX0_taken_48 ?_
        refine j_iconst dX0_taken_49 ?_
        refine j_iload_n dX0_taken_50 2 rfl ?_
        refine j_aload_n dX0_taken_51 0 rfl ?_
        obtain ⟨x6, hx6, hf⟩ := obb hf
        refine c_geta (ci := 0) (k := 10) hx6 zcl_0 (Nat.le_of_ble_eq_true rfl) zf_X0_99 fk_10 dX0_taken_52 ?_
        refine j_iload dX0_taken_55 3 rfl ?_
        obtain ⟨x7, hx7, hf⟩ := obb hf
        refine c_iald hx7 dX0_taken_57 ?_
        refine j_isub dX0_taken_58 ?_
        refine j_mmax q1701 q346 q137 q347 (Nat.le_of_ble_eq_true rfl) (Nat.le_of_ble_eq_true rfl) (Nat.le_of_ble_eq_true rfl) ⟨Nat.le_refl 0, Nat.le_refl 0⟩ dX0_taken_59 ?_
        refine j_mmin q1725 q395 q137 q396 (Nat.le_of_ble_eq_true rfl) (Nat.le_of_ble_eq_true rfl) (Nat.le_of_ble_eq_true rfl) ⟨Nat.le_refl 0, Nat.le_refl 0⟩ dX0_taken_62 ?_
        refine j_i2l dX0_taken_65 ?_
        exact j_sub [0, 1, 2, 3] _ rfl (t0_taken_b66 (f0_taken_l5 G v0 v2 u n) ih hK0 hK1 v3 v4 (w32 (mn32 x5 (mx32 0 (v3 - x7)))) hf)
      · replace hf := itb h10 hf
        refine j_iload_n dX0_taken_24 2 rfl ?_
        refine j_i2l dX0_taken_25 ?_
        refine j_aload_n dX0_taken_26 0 rfl ?_
        obtain ⟨x8, hx8, hf⟩ := obb hf
        refine c_geta (ci := 0) (k := 10) hx8 zcl_0 (Nat.le_of_ble_eq_true rfl) zf_X0_99 fk_10 dX0_taken_27 ?_
        refine j_iload dX0_taken_30 3 rfl ?_
        obtain ⟨x9, hx9, hf⟩ := obb hf
        refine c_iald hx9 dX0_taken_32 ?_
        refine j_i2l dX0_taken_33 ?_
        refine j_lmul dX0_taken_34 ?_
        refine j_ldc2 (z := 1000) q1589 (by decide) dX0_taken_35 ?_
        refine j_ldiv dX0_taken_38 (by decide) ?_
        refine j_goto 66 dX0_taken_39 (by decide) ?_
        exact j_sub [0, 1, 2, 3] _ rfl (t0_taken_b66 (f0_taken_l5 G v0 v2 u n) ih hK0 hK1 v3 v4 (div64 ((w32 v3) * (w32 x9)) 1000) hf)
theorem t0_taken {G : CG} {A : Nat → Prop} {l : Launch} {r : Int} (v0 : Option Nat) (v1 : Int) (v2 : Int) (u : Sg) (hf : f0_taken G v0 v1 v2 u = some r) : JM kC (bC G A) A l yX0_taken D0_taken [pR v0, pI v1, pI v2] u (some (pI r)) u 0 0 := by
  refine j_met (lv0 := [(0, pR v0), (1, pI v1), (2, pI v2)]) ⟨pl_X0, rfl, rfl, (Nat.le_of_ble_eq_true rfl), rfl⟩ ?_
  unfold f0_taken at hf
  refine j_iload_n dX0_taken_0 1 rfl ?_
  refine j_istore_n dX0_taken_1 [(3, pI v1), (0, pR v0), (1, pI v1), (2, pI v2)] (Nat.le_of_ble_eq_true rfl) rfl ?_
  refine j_iconst dX0_taken_2 ?_
  refine j_istore dX0_taken_3 [(4, pI 0), (3, pI v1), (0, pR v0), (1, pI v1), (2, pI v2)] (Nat.le_of_ble_eq_true rfl) rfl ?_
  refine j_sub [2, 4, 1, 0] _ rfl (t0_taken_l5 v0 v2 u ?_ ?_ NN v1 0 hf)
  · intro q1 hf
    simp only [Sum.elim_inl, Sum.elim_inr] at hf
    refine j_lload dX0_taken_74 0 rfl ?_
    refine j_l2i dX0_taken_76 ?_
    replace hf := Option.some.inj hf
    subst hf
    exact j_ireturn (bC_mv G A) ⟨Nat.le_refl 0, Nat.le_refl 0⟩ rfl dX0_taken_77
  · intro q2 hf
    simp only [Sum.elim_inl, Sum.elim_inr] at hf
    refine j_iload_n dX0_taken_90 0 rfl ?_
    replace hf := Option.some.inj hf
    subst hf
    exact j_ireturn (bC_mv G A) ⟨Nat.le_refl 0, Nat.le_refl 0⟩ rfl dX0_taken_91
theorem t0_ceded {G : CG} {A : Nat → Prop} {l : Launch} {r : Int × Sg} (v0 : Option Nat) (v1 : Int) (v2 : Int) (v3 : Int) (u : Sg) (hf : f0_ceded G v0 v1 v2 v3 u = some r) : JM kC (bC G A) A l yX0_ceded D0_ceded [pR v0, pI v1, pI v2, pI v3] u (some (pI r.1)) r.2 0 0 := by
  refine j_met (lv0 := [(0, pR v0), (1, pI v1), (2, pI v2), (3, pI v3)]) ⟨pl_X0, rfl, rfl, (Nat.le_of_ble_eq_true rfl), rfl⟩ ?_
  unfold f0_ceded at hf
  refine j_aload_n dX0_ceded_0 0 rfl ?_
  refine j_iload_n dX0_ceded_1 1 rfl ?_
  obtain ⟨b1, hb1, hf⟩ := ob hf
  obtain ⟨eb1, tb1⟩ := ztg_s hb1
  obtain ⟨x2, hx2, hf⟩ := ob hf
  refine a_Vr [pI v1] [] (t0_isClaim (some b1) v1 u hx2) ⟨q1681, q1683, qs44, q128, q1684⟩ dv0_isClaim rfl ⟨(Nat.le_of_ble_eq_true rfl), (Nat.le_of_ble_eq_true rfl)⟩ (c_recv zcl_0 tb1) (by rw [← eb1]; rfl) (Nat.le_of_ble_eq_true rfl) dX0_ceded_2 ⟨Nat.le_refl 0, Nat.le_refl 0⟩ ?_
  refine j_if_eq (w32 x2) rfl 21 dX0_ceded_5 (by decide) (fun h11 => ?_) (fun h11 => ?_)
  · replace hf := it h11 hf
    refine j_iconst dX0_ceded_21 ?_
    replace hf := Option.some.inj hf
    subst hf
    exact j_ireturn (bC_mv G A) ⟨Nat.le_refl 0, Nat.le_refl 0⟩ rfl dX0_ceded_22
  · replace hf := ie h11 hf
    refine j_iload_n dX0_ceded_8 2 rfl ?_
    refine j_iconst dX0_ceded_9 ?_
    refine j_icmp_lt (w32 v2) (-1) rfl rfl 21 dX0_ceded_10 (by decide) (fun h10 => ?_) (fun h10 => ?_)
    · replace hf := it h10 hf
      refine j_iconst dX0_ceded_21 ?_
      replace hf := Option.some.inj hf
      subst hf
      exact j_ireturn (bC_mv G A) ⟨Nat.le_refl 0, Nat.le_refl 0⟩ rfl dX0_ceded_22
    · replace hf := ie h10 hf
      refine j_iload_n dX0_ceded_13 2 rfl ?_
      refine j_aload_n dX0_ceded_14 0 rfl ?_
      obtain ⟨x3, hx3, hf⟩ := ob hf
      refine c_geti (ci := 0) (k := 12) hx3 zcl_0 (Nat.le_of_ble_eq_true rfl) zf_X0_486 fk_12 dX0_ceded_15 ?_
      refine j_icmp_lt (w32 v2) (w32 x3) rfl rfl 23 dX0_ceded_18 (by decide) (fun h9 => ?_) (fun h9 => ?_)
      · replace hf := it h9 hf
        refine j_aload_n dX0_ceded_23 0 rfl ?_
        refine j_iload_n dX0_ceded_24 1 rfl ?_
        refine j_iload_n dX0_ceded_25 3 rfl ?_
        obtain ⟨b4, hb4, hf⟩ := ob hf
        obtain ⟨eb4, tb4⟩ := ztg_s hb4
        obtain ⟨q5, hq5, hf⟩ := ob hf
        refine a_Vr [pI v1, pI v3] [] (t0_pay (some b4) v1 v3 u hq5) ⟨q1720, q1686, q1687, q128, q1688⟩ dv0_pay rfl ⟨(Nat.le_of_ble_eq_true rfl), (Nat.le_of_ble_eq_true rfl)⟩ (c_recv zcl_0 tb4) (by rw [← eb4]; rfl) (Nat.le_of_ble_eq_true rfl) dX0_ceded_26 ⟨Nat.le_refl 0, Nat.le_refl 0⟩ ?_
        refine j_istore dX0_ceded_29 [(4, pI q5.1), (0, pR v0), (1, pI v1), (2, pI v2), (3, pI v3)] (Nat.le_of_ble_eq_true rfl) rfl ?_
        refine j_iload dX0_ceded_31 0 rfl ?_
        refine j_if_ge (w32 q5.1) rfl 41 dX0_ceded_33 (by decide) (fun h8 => ?_) (fun h8 => ?_)
        · replace hf := it h8 hf
          refine j_aload_n dX0_ceded_41 1 rfl ?_
          refine j_iload dX0_ceded_42 0 rfl ?_
          refine j_iload_n dX0_ceded_44 3 rfl ?_
          obtain ⟨b6, hb6, hf⟩ := ob hf
          obtain ⟨eb6, tb6⟩ := ztg_s hb6
          obtain ⟨x7, hx7, hf⟩ := ob hf
          refine a_Vr [pI q5.1, pI v2] [] (t0_taken (some b6) q5.1 v2 q5.2 hx7) ⟨q1721, q1723, qs48, q128, q1724⟩ dv0_taken rfl ⟨(Nat.le_of_ble_eq_true rfl), (Nat.le_of_ble_eq_true rfl)⟩ (c_recv zcl_0 tb6) (by rw [← eb6]; rfl) (Nat.le_of_ble_eq_true rfl) dX0_ceded_45 ⟨Nat.le_refl 0, Nat.le_refl 0⟩ ?_
          replace hf := Option.some.inj hf
          subst hf
          exact j_ireturn (bC_mv G A) ⟨Nat.le_refl 0, Nat.le_refl 0⟩ rfl dX0_ceded_48
        · replace hf := ie h8 hf
          refine j_iload dX0_ceded_36 0 rfl ?_
          refine j_goto 48 dX0_ceded_38 (by decide) ?_
          replace hf := Option.some.inj hf
          subst hf
          exact j_ireturn (bC_mv G A) ⟨Nat.le_refl 0, Nat.le_refl 0⟩ rfl dX0_ceded_48
      · replace hf := ie h9 hf
        refine j_iconst dX0_ceded_21 ?_
        replace hf := Option.some.inj hf
        subst hf
        exact j_ireturn (bC_mv G A) ⟨Nat.le_refl 0, Nat.le_refl 0⟩ rfl dX0_ceded_22
theorem t0_book {G : CG} {A : Nat → Prop} {l : Launch} {r : Sg} (v0 : Option Nat) (v1 : Int) (v2 : Int) (v3 : Int) (v4 : Int) (u : Sg) (hf : f0_book G v0 v1 v2 v3 v4 u = some r) : JM kC (bC G A) A l yX0_book D0_book [pR v0, pI v1, pI v2, pI v3, pI v4] u none r 0 0 := by
  refine j_met (lv0 := [(0, pR v0), (1, pI v1), (2, pI v2), (3, pI v3), (4, pI v4)]) ⟨pl_X0, rfl, rfl, (Nat.le_of_ble_eq_true rfl), rfl⟩ ?_
  unfold f0_book at hf
  refine j_aload_n dX0_book_0 0 rfl ?_
  obtain ⟨x1, hx1, hf⟩ := ob hf
  refine c_geta (ci := 0) (k := 18) hx1 zcl_0 (Nat.le_of_ble_eq_true rfl) zf_X0_134 fk_18 dX0_book_1 ?_
  refine j_aload_n dX0_book_4 0 rfl ?_
  obtain ⟨x2, hx2, hf⟩ := ob hf
  refine c_geti (ci := 0) (k := 22) hx2 zcl_0 (Nat.le_of_ble_eq_true rfl) zf_X0_497 fk_22 dX0_book_5 ?_
  refine j_iload_n dX0_book_8 1 rfl ?_
  obtain ⟨u3, hu3, hf⟩ := ob hf
  refine c_iast hu3 dX0_book_9 ?_
  refine j_aload_n dX0_book_10 0 rfl ?_
  obtain ⟨x4, hx4, hf⟩ := ob hf
  refine c_geta (ci := 0) (k := 19) hx4 zcl_0 (Nat.le_of_ble_eq_true rfl) zf_X0_137 fk_19 dX0_book_11 ?_
  refine j_aload_n dX0_book_14 0 rfl ?_
  obtain ⟨x5, hx5, hf⟩ := ob hf
  refine c_geti (ci := 0) (k := 22) hx5 zcl_0 (Nat.le_of_ble_eq_true rfl) zf_X0_497 fk_22 dX0_book_15 ?_
  refine j_iload_n dX0_book_18 2 rfl ?_
  obtain ⟨u6, hu6, hf⟩ := ob hf
  refine c_iast hu6 dX0_book_19 ?_
  refine j_aload_n dX0_book_20 0 rfl ?_
  obtain ⟨x7, hx7, hf⟩ := ob hf
  refine c_geta (ci := 0) (k := 20) hx7 zcl_0 (Nat.le_of_ble_eq_true rfl) zf_X0_140 fk_20 dX0_book_21 ?_
  refine j_aload_n dX0_book_24 0 rfl ?_
  obtain ⟨x8, hx8, hf⟩ := ob hf
  refine c_geti (ci := 0) (k := 22) hx8 zcl_0 (Nat.le_of_ble_eq_true rfl) zf_X0_497 fk_22 dX0_book_25 ?_
  refine j_iload_n dX0_book_28 3 rfl ?_
  obtain ⟨u9, hu9, hf⟩ := ob hf
  refine c_iast hu9 dX0_book_29 ?_
  refine j_aload_n dX0_book_30 0 rfl ?_
  obtain ⟨x10, hx10, hf⟩ := ob hf
  refine c_geta (ci := 0) (k := 21) hx10 zcl_0 (Nat.le_of_ble_eq_true rfl) zf_X0_143 fk_21 dX0_book_31 ?_
  refine j_aload_n dX0_book_34 0 rfl ?_
  refine j_dup dX0_book_35 rfl ?_
  obtain ⟨x11, hx11, hf⟩ := ob hf
  refine c_geti (ci := 0) (k := 22) hx11 zcl_0 (Nat.le_of_ble_eq_true rfl) zf_X0_497 fk_22 dX0_book_36 ?_
  refine j_dup_x1 dX0_book_39 rfl rfl ?_
  refine j_iconst dX0_book_40 ?_
  refine j_iadd dX0_book_41 ?_
  obtain ⟨u12, hu12, hf⟩ := ob hf
  refine c_puti (ci := 0) (k := 22) hu12 zcl_0 (Nat.le_of_ble_eq_true rfl) zf_X0_497 fk_22 rfl fits_I dX0_book_42 ?_
  refine j_iload dX0_book_45 4 rfl ?_
  obtain ⟨u13, hu13, hf⟩ := ob hf
  refine c_iast hu13 dX0_book_47 ?_
  replace hf := Option.some.inj hf
  subst hf
  exact j_return (bC_mv G A) ⟨Nat.le_refl 0, Nat.le_refl 0⟩ rfl dX0_book_48
theorem t0_close_l20 {G : CG} {A : Nat → Prop} {l : Launch} {a : List PV} {r : Int × Sg} {Kf : Sg → Option (Int × Sg)} (v0 : Option Nat) (v1 : Int) (hK0 : ∀ q : Sg, Kf q = some r → JW kC (bC G A) A l D0_close a (jQ (bC G A) A a (some (pI r.1)) r.2 0 0) 0 0 q 0 0 45 [(0, pR v0), (1, pI v1)] []) : ∀ (n : Nat) (v2 : Int) (u : Sg), ((f0_close_l20 G v0 v1 n v2 u).bind Kf = some r) → JW kC (bC G A) A l D0_close a (jQ (bC G A) A a (some (pI r.1)) r.2 0 0) 0 0 u 0 0 20 [(0, pR v0), (1, pI v1), (2, pI v2)] [] := by
  intro n
  induction n with
  | zero => intro v2 u hf; exact onb hf
  | succ n ih =>
    intro v2 u hf
    unfold f0_close_l20 at hf
    refine j_iload_n dX0_close_20 2 rfl ?_
    refine j_aload_n dX0_close_21 0 rfl ?_
    obtain ⟨x1, hx1, hf⟩ := obb hf
    refine c_geta (ci := 0) (k := 7) hx1 zcl_0 (Nat.le_of_ble_eq_true rfl) zf_X0_89 fk_7 dX0_close_22 ?_
    obtain ⟨b2, hb2, hf⟩ := obb hf
    obtain ⟨eb2, tb2⟩ := ztg_s hb2
    obtain ⟨x3, hx3, hf⟩ := obb hf
    refine a_Fr (x := ix_0) [] [pI v2] (tJ2_size (some b2) u hx3) ⟨q556, q559, q561, q131, q563⟩ iF_0 df_0 rfl ⟨(Nat.le_of_ble_eq_true rfl), (Nat.le_of_ble_eq_true rfl)⟩ zcl_5 rfl tb2 (by rw [← eb2]; rfl) (Nat.le_of_ble_eq_true rfl) dX0_close_25 ⟨Nat.le_refl 0, Nat.le_refl 0⟩ ?_
    refine j_icmp_gt (w32 v2) (w32 x3) rfl rfl 45 dX0_close_30 (by decide) (fun h6 => ?_) (fun h6 => ?_)
    · replace hf := itb h6 hf
      exact j_sub [0, 1] _ rfl (hK0 u hf)
    · replace hf := ieb h6 hf
      refine j_aload_n dX0_close_33 0 rfl ?_
      refine j_iload_n dX0_close_34 2 rfl ?_
      refine j_iload_n dX0_close_35 1 rfl ?_
      obtain ⟨b4, hb4, hf⟩ := obb hf
      obtain ⟨eb4, tb4⟩ := ztg_s hb4
      obtain ⟨u5, hu5, hf⟩ := obb hf
      refine a_Vv [pI v2, pI v1] [] (t0_payAll (some b4) v2 v1 u hu5) ⟨q1689, q1691, qs45, q128, q1692⟩ dv0_payAll rfl ⟨(Nat.le_of_ble_eq_true rfl), (Nat.le_of_ble_eq_true rfl)⟩ (c_recv zcl_0 tb4) (by rw [← eb4]; rfl) (Nat.le_of_ble_eq_true rfl) dX0_close_36 ⟨Nat.le_refl 0, Nat.le_refl 0⟩ ?_
      refine j_iinc dX0_close_39 2 rfl [(2, pI (v2 + 1)), (0, pR v0), (1, pI v1)] (Nat.le_of_ble_eq_true rfl) rfl ?_
      refine j_goto 20 dX0_close_42 (by decide) ?_
      exact j_sub [1, 2, 0] _ rfl (ih (v2 + 1) u5 hf)
theorem t0_close_b128 {G : CG} {A : Nat → Prop} {l : Launch} {a : List PV} {r : Int × Sg} {Kf : Int → Option (Int × Sg)} {v0 : Option Nat} {v1 : Int} {u : Sg} (kh : Int → Int → Option (Int)) (hkh : ∀ (z2 : Int) (z3 : Int), ((kh z2 z3).bind Kf = some r) → JW kC (bC G A) A l D0_close a (jQ (bC G A) A a (some (pI r.1)) r.2 0 0) 0 0 u 0 0 49 [(0, pR v0), (1, pI v1), (2, pI z2), (3, pI z3)] []) (hK0 : ∀ q : Int, Kf q = some r → JW kC (bC G A) A l D0_close a (jQ (bC G A) A a (some (pI r.1)) r.2 0 0) 0 0 u 0 0 137 [(0, pR v0), (1, pI v1), (2, pI q)] []) (v3 : Int) (s0 : Int) (s1 : Int) (s2 : Int) (hf : (f0_close_b128 G kh v0 v1 v3 s0 s1 s2 u).bind Kf = some r) : JW kC (bC G A) A l D0_close a (jQ (bC G A) A a (some (pI r.1)) r.2 0 0) 0 0 u 0 0 128 [(0, pR v0), (1, pI v1), (3, pI v3)] [pI s2, pI s1, pI s0] := by
  unfold f0_close_b128 at hf
  refine j_iadd dX0_close_128 ?_
  refine j_iadd dX0_close_129 ?_
  refine j_istore_n dX0_close_130 [(2, pI (s0 + (s1 + s2))), (0, pR v0), (1, pI v1), (3, pI v3)] (Nat.le_of_ble_eq_true rfl) rfl ?_
  refine j_iinc dX0_close_131 3 rfl [(3, pI (v3 + 1)), (2, pI (s0 + (s1 + s2))), (0, pR v0), (1, pI v1)] (Nat.le_of_ble_eq_true rfl) rfl ?_
  refine j_goto 49 dX0_close_134 (by decide) ?_
  exact j_sub [2, 3, 1, 0] _ rfl (hkh (s0 + (s1 + s2)) (v3 + 1) hf)
theorem t0_close_b97 {G : CG} {A : Nat → Prop} {l : Launch} {a : List PV} {r : Int × Sg} {Kf : Int → Option (Int × Sg)} {v0 : Option Nat} {v1 : Int} {u : Sg} (kh : Int → Int → Option (Int)) (hkh : ∀ (z2 : Int) (z3 : Int), ((kh z2 z3).bind Kf = some r) → JW kC (bC G A) A l D0_close a (jQ (bC G A) A a (some (pI r.1)) r.2 0 0) 0 0 u 0 0 49 [(0, pR v0), (1, pI v1), (2, pI z2), (3, pI z3)] []) (hK0 : ∀ q : Int, Kf q = some r → JW kC (bC G A) A l D0_close a (jQ (bC G A) A a (some (pI r.1)) r.2 0 0) 0 0 u 0 0 137 [(0, pR v0), (1, pI v1), (2, pI q)] []) (v3 : Int) (v4 : Option Nat) (s0 : Int) (s1 : Int) (hf : (f0_close_b97 G kh v0 v1 v3 v4 s0 s1 u).bind Kf = some r) : JW kC (bC G A) A l D0_close a (jQ (bC G A) A a (some (pI r.1)) r.2 0 0) 0 0 u 0 0 97 [(0, pR v0), (1, pI v1), (3, pI v3), (4, pR v4)] [pI s1, pI s0] := by
  unfold f0_close_b97 at hf
  refine j_aload_n dX0_close_97 0 rfl ?_
  obtain ⟨x1, hx1, hf⟩ := obb hf
  refine c_geta (ci := 0) (k := 16) hx1 zcl_0 (Nat.le_of_ble_eq_true rfl) zf_X0_128 fk_16 dX0_close_98 ?_
  refine j_iload_n dX0_close_101 2 rfl ?_
  obtain ⟨x2, hx2, hf⟩ := obb hf
  refine c_iald hx2 dX0_close_102 ?_
  refine j_aload_n dX0_close_103 0 rfl ?_
  refine j_aload_n dX0_close_104 0 rfl ?_
  obtain ⟨x3, hx3, hf⟩ := obb hf
  refine c_geta (ci := 0) (k := 16) hx3 zcl_0 (Nat.le_of_ble_eq_true rfl) zf_X0_128 fk_16 dX0_close_105 ?_
  refine j_iload_n dX0_close_108 2 rfl ?_
  obtain ⟨x4, hx4, hf⟩ := obb hf
  refine c_iald hx4 dX0_close_109 ?_
  refine j_iconst dX0_close_110 ?_
  obtain ⟨b5, hb5, hf⟩ := obb hf
  obtain ⟨eb5, tb5⟩ := ztg_s hb5
  obtain ⟨x6, hx6, hf⟩ := obb hf
  refine a_Vr [pI x4, pI (-1)] [pI x2, pI s1, pI s0] (t0_taken (some b5) x4 (-1) u hx6) ⟨q1721, q1723, qs48, q128, q1724⟩ dv0_taken rfl ⟨(Nat.le_of_ble_eq_true rfl), (Nat.le_of_ble_eq_true rfl)⟩ (c_recv zcl_0 tb5) (by rw [← eb5]; rfl) (Nat.le_of_ble_eq_true rfl) dX0_close_111 ⟨Nat.le_refl 0, Nat.le_refl 0⟩ ?_
  refine j_isub dX0_close_114 ?_
  refine j_aload dX0_close_115 3 rfl ?_
  obtain ⟨x7, hx7, hf⟩ := obb hf
  refine c_getiN (ci := 21) (k := 6) hx7 zcl_21 (Nat.le_of_ble_eq_true rfl) zf_X0_506 fk_846 dX0_close_117 ?_
  refine j_icmp_eq (w32 (x2 - x6)) (w32 x7) rfl rfl 127 dX0_close_120 (by decide) (fun h8 => ?_) (fun h8 => ?_)
  · replace hf := itb h8 hf
    refine j_iconst dX0_close_127 ?_
    exact j_sub [0, 1, 2] _ rfl (t0_close_b128 (kh) hkh hK0 v3 s0 s1 0 hf)
  · replace hf := ieb h8 hf
    refine j_iconst dX0_close_123 ?_
    refine j_goto 128 dX0_close_124 (by decide) ?_
    exact j_sub [0, 1, 2] _ rfl (t0_close_b128 (kh) hkh hK0 v3 s0 s1 2 hf)
theorem t0_close_l49 {G : CG} {A : Nat → Prop} {l : Launch} {a : List PV} {r : Int × Sg} {Kf : Int → Option (Int × Sg)} (v0 : Option Nat) (v1 : Int) (u : Sg) (hK0 : ∀ q : Int, Kf q = some r → JW kC (bC G A) A l D0_close a (jQ (bC G A) A a (some (pI r.1)) r.2 0 0) 0 0 u 0 0 137 [(0, pR v0), (1, pI v1), (2, pI q)] []) : ∀ (n : Nat) (v2 : Int) (v3 : Int), ((f0_close_l49 G v0 v1 u n v2 v3).bind Kf = some r) → JW kC (bC G A) A l D0_close a (jQ (bC G A) A a (some (pI r.1)) r.2 0 0) 0 0 u 0 0 49 [(0, pR v0), (1, pI v1), (2, pI v2), (3, pI v3)] [] := by
  intro n
  induction n with
  | zero => intro v2 v3 hf; exact onb hf
  | succ n ih =>
    intro v2 v3 hf
    unfold f0_close_l49 at hf
    refine j_iload_n dX0_close_49 3 rfl ?_
    refine j_aload_n dX0_close_50 0 rfl ?_
    obtain ⟨x1, hx1, hf⟩ := obb hf
    refine c_geta (ci := 0) (k := 8) hx1 zcl_0 (Nat.le_of_ble_eq_true rfl) zf_X0_92 fk_8 dX0_close_51 ?_
    obtain ⟨b2, hb2, hf⟩ := obb hf
    obtain ⟨eb2, tb2⟩ := ztg_s hb2
    obtain ⟨x3, hx3, hf⟩ := obb hf
    refine a_Fr (x := ix_0) [] [pI v3] (tJ2_size (some b2) u hx3) ⟨q556, q559, q561, q131, q563⟩ iF_0 df_0 rfl ⟨(Nat.le_of_ble_eq_true rfl), (Nat.le_of_ble_eq_true rfl)⟩ zcl_5 rfl tb2 (by rw [← eb2]; rfl) (Nat.le_of_ble_eq_true rfl) dX0_close_54 ⟨Nat.le_refl 0, Nat.le_refl 0⟩ ?_
    refine j_icmp_ge (w32 v3) (w32 x3) rfl rfl 137 dX0_close_59 (by decide) (fun h12 => ?_) (fun h12 => ?_)
    · replace hf := itb h12 hf
      exact j_sub [0, 1, 2] _ rfl (hK0 v2 hf)
    · replace hf := ieb h12 hf
      refine j_aload_n dX0_close_62 0 rfl ?_
      obtain ⟨x4, hx4, hf⟩ := obb hf
      refine c_geta (ci := 0) (k := 8) hx4 zcl_0 (Nat.le_of_ble_eq_true rfl) zf_X0_92 fk_8 dX0_close_63 ?_
      refine j_iload_n dX0_close_66 3 rfl ?_
      obtain ⟨b5, hb5, hf⟩ := obb hf
      obtain ⟨eb5, tb5⟩ := ztg_s hb5
      obtain ⟨x6, hx6, hf⟩ := obb hf
      refine a_Fr (x := ix_1) [pI v3] [] (tJ2_get (some b5) v3 u hx6) ⟨q1273, q813, q815, q131, q817⟩ iF_1 df_1 rfl ⟨(Nat.le_of_ble_eq_true rfl), (Nat.le_of_ble_eq_true rfl)⟩ zcl_5 rfl tb5 (by rw [← eb5]; rfl) (Nat.le_of_ble_eq_true rfl) dX0_close_67 ⟨Nat.le_refl 0, Nat.le_refl 0⟩ ?_
      obtain ⟨y7, hy7, hf⟩ := obb hf
      refine c_cast hy7 zok_Claim q1642 dX0_close_72 ?_
      refine j_astore dX0_close_75 [(4, pR x6), (0, pR v0), (1, pI v1), (2, pI v2), (3, pI v3)] (Nat.le_of_ble_eq_true rfl) rfl ?_
      refine j_iload_n dX0_close_77 3 rfl ?_
      refine j_aload_n dX0_close_78 1 rfl ?_
      obtain ⟨x8, hx8, hf⟩ := obb hf
      refine c_geta (ci := 0) (k := 16) hx8 zcl_0 (Nat.le_of_ble_eq_true rfl) zf_X0_128 fk_16 dX0_close_79 ?_
      refine j_iload_n dX0_close_82 4 rfl ?_
      obtain ⟨x9, hx9, hf⟩ := obb hf
      refine c_iald hx9 dX0_close_83 ?_
      refine j_aload dX0_close_84 0 rfl ?_
      obtain ⟨x10, hx10, hf⟩ := obb hf
      refine c_getiN (ci := 21) (k := 5) hx10 zcl_21 (Nat.le_of_ble_eq_true rfl) zf_X0_503 fk_845 dX0_close_86 ?_
      refine j_icmp_eq (w32 x9) (w32 x10) rfl rfl 96 dX0_close_89 (by decide) (fun h11 => ?_) (fun h11 => ?_)
      · replace hf := itb h11 hf
        refine j_iconst dX0_close_96 ?_
        exact j_sub [1, 2, 4, 0] _ rfl (t0_close_b97 (f0_close_l49 G v0 v1 u n) ih hK0 v3 x6 v2 0 hf)
      · replace hf := ieb h11 hf
        refine j_iconst dX0_close_92 ?_
        refine j_goto 97 dX0_close_93 (by decide) ?_
        exact j_sub [1, 2, 4, 0] _ rfl (t0_close_b97 (f0_close_l49 G v0 v1 u n) ih hK0 v3 x6 v2 2 hf)
theorem t0_close_b283 {G : CG} {A : Nat → Prop} {l : Launch} {a : List PV} {r : Int × Sg} {Kf : Sg → Option (Int × Sg)} {v0 : Option Nat} {v1 : Int} {v2 : Int} (kh : Int → Sg → Option (Sg)) (hkh : ∀ (z3 : Int) (zu : Sg), ((kh z3 zu).bind Kf = some r) → JW kC (bC G A) A l D0_close a (jQ (bC G A) A a (some (pI r.1)) r.2 0 0) 0 0 zu 0 0 159 [(0, pR v0), (1, pI v1), (2, pI v2), (3, pI z3)] []) (hK0 : ∀ q : Sg, Kf q = some r → JW kC (bC G A) A l D0_close a (jQ (bC G A) A a (some (pI r.1)) r.2 0 0) 0 0 q 0 0 313 [(2, pI v2)] []) (v3 : Int) (v4 : Option Nat) (v5 : Int) (v6 : Int) (u : Sg) (hf : (f0_close_b283 G kh v0 v1 v2 v3 v4 v5 v6 u).bind Kf = some r) : JW kC (bC G A) A l D0_close a (jQ (bC G A) A a (some (pI r.1)) r.2 0 0) 0 0 u 0 0 283 [(0, pR v0), (1, pI v1), (2, pI v2), (3, pI v3), (4, pR v4), (5, pI v5), (6, pI v6)] [] := by
  unfold f0_close_b283 at hf
  refine j_aload dX0_close_283 4 rfl ?_
  refine j_dup dX0_close_285 rfl ?_
  obtain ⟨x1, hx1, hf⟩ := obb hf
  refine c_getiN (ci := 21) (k := 5) hx1 zcl_21 (Nat.le_of_ble_eq_true rfl) zf_X0_503 fk_845 dX0_close_286 ?_
  refine j_iload dX0_close_289 5 rfl ?_
  refine j_iadd dX0_close_291 ?_
  obtain ⟨u2, hu2, hf⟩ := obb hf
  refine c_putiN (ci := 21) (k := 5) hu2 zcl_21 (Nat.le_of_ble_eq_true rfl) zf_X0_503 fk_845 rfl fits_I dX0_close_292 ?_
  refine j_aload dX0_close_295 4 rfl ?_
  refine j_dup dX0_close_297 rfl ?_
  obtain ⟨x3, hx3, hf⟩ := obb hf
  refine c_getiN (ci := 21) (k := 6) hx3 zcl_21 (Nat.le_of_ble_eq_true rfl) zf_X0_506 fk_846 dX0_close_298 ?_
  refine j_iload dX0_close_301 6 rfl ?_
  refine j_iadd dX0_close_303 ?_
  obtain ⟨u4, hu4, hf⟩ := obb hf
  refine c_putiN (ci := 21) (k := 6) hu4 zcl_21 (Nat.le_of_ble_eq_true rfl) zf_X0_506 fk_846 rfl fits_I dX0_close_304 ?_
  refine j_iinc dX0_close_307 3 rfl [(3, pI (v3 + 1)), (0, pR v0), (1, pI v1), (2, pI v2), (4, pR v4), (5, pI v5), (6, pI v6)] (Nat.le_of_ble_eq_true rfl) rfl ?_
  refine j_goto 159 dX0_close_310 (by decide) ?_
  exact j_sub [1, 2, 3, 0] _ rfl (hkh (v3 + 1) u4 hf)
theorem t0_close_b255 {G : CG} {A : Nat → Prop} {l : Launch} {a : List PV} {r : Int × Sg} {Kf : Sg → Option (Int × Sg)} {v0 : Option Nat} {v1 : Int} {v2 : Int} (kh : Int → Sg → Option (Sg)) (hkh : ∀ (z3 : Int) (zu : Sg), ((kh z3 zu).bind Kf = some r) → JW kC (bC G A) A l D0_close a (jQ (bC G A) A a (some (pI r.1)) r.2 0 0) 0 0 zu 0 0 159 [(0, pR v0), (1, pI v1), (2, pI v2), (3, pI z3)] []) (hK0 : ∀ q : Sg, Kf q = some r → JW kC (bC G A) A l D0_close a (jQ (bC G A) A a (some (pI r.1)) r.2 0 0) 0 0 q 0 0 313 [(2, pI v2)] []) (v3 : Int) (v4 : Option Nat) (v5 : Int) (v6 : Int) (u : Sg) (hf : (f0_close_b255 G kh v0 v1 v2 v3 v4 v5 v6 u).bind Kf = some r) : JW kC (bC G A) A l D0_close a (jQ (bC G A) A a (some (pI r.1)) r.2 0 0) 0 0 u 0 0 255 [(0, pR v0), (1, pI v1), (2, pI v2), (3, pI v3), (4, pR v4), (5, pI v5), (6, pI v6)] [] := by
  unfold f0_close_b255 at hf
  refine j_iload dX0_close_255 6 rfl ?_
  refine j_if_eq (w32 v6) rfl 283 dX0_close_257 (by decide) (fun h5 => ?_) (fun h5 => ?_)
  · replace hf := itb h5 hf
    exact j_sub [0, 1, 2, 3, 4, 5, 6] _ rfl (t0_close_b283 (kh) hkh hK0 v3 v4 v5 v6 u hf)
  · replace hf := ieb h5 hf
    refine j_aload_n dX0_close_260 0 rfl ?_
    refine j_iload_n dX0_close_261 3 rfl ?_
    refine j_iconst dX0_close_262 ?_
    refine j_iadd dX0_close_263 ?_
    refine j_iconst dX0_close_264 ?_
    refine j_iload dX0_close_265 6 rfl ?_
    refine j_iload_n dX0_close_267 1 rfl ?_
    obtain ⟨b1, hb1, hf⟩ := obb hf
    obtain ⟨eb1, tb1⟩ := ztg_s hb1
    obtain ⟨u2, hu2, hf⟩ := obb hf
    refine a_Vv [pI (v3 + 1), pI 2, pI v6, pI v1] [] (t0_book (some b1) (v3 + 1) 2 v6 v1 u hu2) ⟨q1730, q1732, qs49, q128, q1733⟩ dv0_book rfl ⟨(Nat.le_of_ble_eq_true rfl), (Nat.le_of_ble_eq_true rfl)⟩ (c_recv zcl_0 tb1) (by rw [← eb1]; rfl) (Nat.le_of_ble_eq_true rfl) dX0_close_268 ⟨Nat.le_refl 0, Nat.le_refl 0⟩ ?_
    refine j_aload_n dX0_close_271 0 rfl ?_
    refine j_iload_n dX0_close_272 3 rfl ?_
    refine j_iconst dX0_close_273 ?_
    refine j_iadd dX0_close_274 ?_
    refine j_iconst dX0_close_275 ?_
    refine j_iload dX0_close_276 6 rfl ?_
    refine j_ineg dX0_close_278 ?_
    refine j_iload_n dX0_close_279 1 rfl ?_
    obtain ⟨b3, hb3, hf⟩ := obb hf
    obtain ⟨eb3, tb3⟩ := ztg_s hb3
    obtain ⟨u4, hu4, hf⟩ := obb hf
    refine a_Vv [pI (v3 + 1), pI 3, pI (-v6), pI v1] [] (t0_book (some b3) (v3 + 1) 3 (-v6) v1 u2 hu4) ⟨q1730, q1732, qs49, q128, q1733⟩ dv0_book rfl ⟨(Nat.le_of_ble_eq_true rfl), (Nat.le_of_ble_eq_true rfl)⟩ (c_recv zcl_0 tb3) (by rw [← eb3]; rfl) (Nat.le_of_ble_eq_true rfl) dX0_close_280 ⟨Nat.le_refl 0, Nat.le_refl 0⟩ ?_
    exact j_sub [0, 1, 2, 3, 4, 5, 6] _ rfl (t0_close_b283 (kh) hkh hK0 v3 v4 v5 v6 u4 hf)
theorem t0_close_l159 {G : CG} {A : Nat → Prop} {l : Launch} {a : List PV} {r : Int × Sg} {Kf : Sg → Option (Int × Sg)} (v0 : Option Nat) (v1 : Int) (v2 : Int) (hK0 : ∀ q : Sg, Kf q = some r → JW kC (bC G A) A l D0_close a (jQ (bC G A) A a (some (pI r.1)) r.2 0 0) 0 0 q 0 0 313 [(2, pI v2)] []) : ∀ (n : Nat) (v3 : Int) (u : Sg), ((f0_close_l159 G v0 v1 v2 n v3 u).bind Kf = some r) → JW kC (bC G A) A l D0_close a (jQ (bC G A) A a (some (pI r.1)) r.2 0 0) 0 0 u 0 0 159 [(0, pR v0), (1, pI v1), (2, pI v2), (3, pI v3)] [] := by
  intro n
  induction n with
  | zero => intro v3 u hf; exact onb hf
  | succ n ih =>
    intro v3 u hf
    unfold f0_close_l159 at hf
    refine j_iload_n dX0_close_159 3 rfl ?_
    refine j_aload_n dX0_close_160 0 rfl ?_
    obtain ⟨x1, hx1, hf⟩ := obb hf
    refine c_geta (ci := 0) (k := 8) hx1 zcl_0 (Nat.le_of_ble_eq_true rfl) zf_X0_92 fk_8 dX0_close_161 ?_
    obtain ⟨b2, hb2, hf⟩ := obb hf
    obtain ⟨eb2, tb2⟩ := ztg_s hb2
    obtain ⟨x3, hx3, hf⟩ := obb hf
    refine a_Fr (x := ix_0) [] [pI v3] (tJ2_size (some b2) u hx3) ⟨q556, q559, q561, q131, q563⟩ iF_0 df_0 rfl ⟨(Nat.le_of_ble_eq_true rfl), (Nat.le_of_ble_eq_true rfl)⟩ zcl_5 rfl tb2 (by rw [← eb2]; rfl) (Nat.le_of_ble_eq_true rfl) dX0_close_164 ⟨Nat.le_refl 0, Nat.le_refl 0⟩ ?_
    refine j_icmp_ge (w32 v3) (w32 x3) rfl rfl 313 dX0_close_169 (by decide) (fun h23 => ?_) (fun h23 => ?_)
    · replace hf := itb h23 hf
      exact j_sub [2] _ rfl (hK0 u hf)
    · replace hf := ieb h23 hf
      refine j_aload_n dX0_close_172 0 rfl ?_
      obtain ⟨x4, hx4, hf⟩ := obb hf
      refine c_geta (ci := 0) (k := 8) hx4 zcl_0 (Nat.le_of_ble_eq_true rfl) zf_X0_92 fk_8 dX0_close_173 ?_
      refine j_iload_n dX0_close_176 3 rfl ?_
      obtain ⟨b5, hb5, hf⟩ := obb hf
      obtain ⟨eb5, tb5⟩ := ztg_s hb5
      obtain ⟨x6, hx6, hf⟩ := obb hf
      refine a_Fr (x := ix_1) [pI v3] [] (tJ2_get (some b5) v3 u hx6) ⟨q1273, q813, q815, q131, q817⟩ iF_1 df_1 rfl ⟨(Nat.le_of_ble_eq_true rfl), (Nat.le_of_ble_eq_true rfl)⟩ zcl_5 rfl tb5 (by rw [← eb5]; rfl) (Nat.le_of_ble_eq_true rfl) dX0_close_177 ⟨Nat.le_refl 0, Nat.le_refl 0⟩ ?_
      obtain ⟨y7, hy7, hf⟩ := obb hf
      refine c_cast hy7 zok_Claim q1642 dX0_close_182 ?_
      refine j_astore dX0_close_185 [(4, pR x6), (0, pR v0), (1, pI v1), (2, pI v2), (3, pI v3)] (Nat.le_of_ble_eq_true rfl) rfl ?_
      refine j_aload_n dX0_close_187 1 rfl ?_
      obtain ⟨x8, hx8, hf⟩ := obb hf
      refine c_geta (ci := 0) (k := 16) hx8 zcl_0 (Nat.le_of_ble_eq_true rfl) zf_X0_128 fk_16 dX0_close_188 ?_
      refine j_iload_n dX0_close_191 4 rfl ?_
      obtain ⟨x9, hx9, hf⟩ := obb hf
      refine c_iald hx9 dX0_close_192 ?_
      refine j_aload dX0_close_193 0 rfl ?_
      obtain ⟨x10, hx10, hf⟩ := obb hf
      refine c_getiN (ci := 21) (k := 5) hx10 zcl_21 (Nat.le_of_ble_eq_true rfl) zf_X0_503 fk_845 dX0_close_195 ?_
      refine j_isub dX0_close_198 ?_
      refine j_istore dX0_close_199 [(5, pI (x9 - x10)), (4, pR x6), (0, pR v0), (1, pI v1), (2, pI v2), (3, pI v3)] (Nat.le_of_ble_eq_true rfl) rfl ?_
      refine j_aload_n dX0_close_201 2 rfl ?_
      obtain ⟨x11, hx11, hf⟩ := obb hf
      refine c_geta (ci := 0) (k := 16) hx11 zcl_0 (Nat.le_of_ble_eq_true rfl) zf_X0_128 fk_16 dX0_close_202 ?_
      refine j_iload_n dX0_close_205 5 rfl ?_
      obtain ⟨x12, hx12, hf⟩ := obb hf
      refine c_iald hx12 dX0_close_206 ?_
      refine j_aload_n dX0_close_207 2 rfl ?_
      refine j_aload_n dX0_close_208 2 rfl ?_
      obtain ⟨x13, hx13, hf⟩ := obb hf
      refine c_geta (ci := 0) (k := 16) hx13 zcl_0 (Nat.le_of_ble_eq_true rfl) zf_X0_128 fk_16 dX0_close_209 ?_
      refine j_iload_n dX0_close_212 5 rfl ?_
      obtain ⟨x14, hx14, hf⟩ := obb hf
      refine c_iald hx14 dX0_close_213 ?_
      refine j_iconst dX0_close_214 ?_
      obtain ⟨b15, hb15, hf⟩ := obb hf
      obtain ⟨eb15, tb15⟩ := ztg_s hb15
      obtain ⟨x16, hx16, hf⟩ := obb hf
      refine a_Vr [pI x14, pI (-1)] [pI x12] (t0_taken (some b15) x14 (-1) u hx16) ⟨q1721, q1723, qs48, q128, q1724⟩ dv0_taken rfl ⟨(Nat.le_of_ble_eq_true rfl), (Nat.le_of_ble_eq_true rfl)⟩ (c_recv zcl_0 tb15) (by rw [← eb15]; rfl) (Nat.le_of_ble_eq_true rfl) dX0_close_215 ⟨Nat.le_refl 0, Nat.le_refl 0⟩ ?_
      refine j_isub dX0_close_218 ?_
      refine j_aload dX0_close_219 1 rfl ?_
      obtain ⟨x17, hx17, hf⟩ := obb hf
      refine c_getiN (ci := 21) (k := 6) hx17 zcl_21 (Nat.le_of_ble_eq_true rfl) zf_X0_506 fk_846 dX0_close_221 ?_
      refine j_isub dX0_close_224 ?_
      refine j_istore dX0_close_225 [(6, pI ((x12 - x16) - x17)), (5, pI (x9 - x10)), (4, pR x6), (0, pR v0), (1, pI v1), (2, pI v2), (3, pI v3)] (Nat.le_of_ble_eq_true rfl) rfl ?_
      refine j_iload dX0_close_227 1 rfl ?_
      refine j_if_eq (w32 (x9 - x10)) rfl 255 dX0_close_229 (by decide) (fun h22 => ?_) (fun h22 => ?_)
      · replace hf := itb h22 hf
        exact j_sub [3, 4, 5, 6, 2, 1, 0] _ rfl (t0_close_b255 (f0_close_l159 G v0 v1 v2 n) ih hK0 v3 x6 (x9 - x10) ((x12 - x16) - x17) u hf)
      · replace hf := ieb h22 hf
        refine j_aload_n dX0_close_232 3 rfl ?_
        refine j_iload_n dX0_close_233 6 rfl ?_
        refine j_iconst dX0_close_234 ?_
        refine j_iadd dX0_close_235 ?_
        refine j_iconst dX0_close_236 ?_
        refine j_iload dX0_close_237 1 rfl ?_
        refine j_ineg dX0_close_239 ?_
        refine j_iload_n dX0_close_240 4 rfl ?_
        obtain ⟨b18, hb18, hf⟩ := obb hf
        obtain ⟨eb18, tb18⟩ := ztg_s hb18
        obtain ⟨u19, hu19, hf⟩ := obb hf
        refine a_Vv [pI (v3 + 1), pI 0, pI (-(x9 - x10)), pI v1] [] (t0_book (some b18) (v3 + 1) 0 (-(x9 - x10)) v1 u hu19) ⟨q1730, q1732, qs49, q128, q1733⟩ dv0_book rfl ⟨(Nat.le_of_ble_eq_true rfl), (Nat.le_of_ble_eq_true rfl)⟩ (c_recv zcl_0 tb18) (by rw [← eb18]; rfl) (Nat.le_of_ble_eq_true rfl) dX0_close_241 ⟨Nat.le_refl 0, Nat.le_refl 0⟩ ?_
        refine j_aload_n dX0_close_244 3 rfl ?_
        refine j_iload_n dX0_close_245 6 rfl ?_
        refine j_iconst dX0_close_246 ?_
        refine j_iadd dX0_close_247 ?_
        refine j_iconst dX0_close_248 ?_
        refine j_iload dX0_close_249 1 rfl ?_
        refine j_iload_n dX0_close_251 4 rfl ?_
        obtain ⟨b20, hb20, hf⟩ := obb hf
        obtain ⟨eb20, tb20⟩ := ztg_s hb20
        obtain ⟨u21, hu21, hf⟩ := obb hf
        refine a_Vv [pI (v3 + 1), pI 1, pI (x9 - x10), pI v1] [] (t0_book (some b20) (v3 + 1) 1 (x9 - x10) v1 u19 hu21) ⟨q1730, q1732, qs49, q128, q1733⟩ dv0_book rfl ⟨(Nat.le_of_ble_eq_true rfl), (Nat.le_of_ble_eq_true rfl)⟩ (c_recv zcl_0 tb20) (by rw [← eb20]; rfl) (Nat.le_of_ble_eq_true rfl) dX0_close_252 ⟨Nat.le_refl 0, Nat.le_refl 0⟩ ?_
        exact j_sub [3, 4, 5, 6, 2, 1, 0] _ rfl (t0_close_b255 (f0_close_l159 G v0 v1 v2 n) ih hK0 v3 x6 (x9 - x10) ((x12 - x16) - x17) u21 hf)
theorem t0_close {G : CG} {A : Nat → Prop} {l : Launch} {r : Int × Sg} (v0 : Option Nat) (v1 : Int) (u : Sg) (hf : f0_close G v0 v1 u = some r) : JM kC (bC G A) A l yX0_close D0_close [pR v0, pI v1] u (some (pI r.1)) r.2 0 0 := by
  refine j_met (lv0 := [(0, pR v0), (1, pI v1)]) ⟨pl_X0, rfl, rfl, (Nat.le_of_ble_eq_true rfl), rfl⟩ ?_
  unfold f0_close at hf
  refine j_iload_n dX0_close_0 1 rfl ?_
  obtain ⟨x1, hx1, hf⟩ := ob hf
  refine a_Sr [pI v1] [] (t0_isDay v1 u hx1) ⟨q1478, q1479, q128, q1480⟩ dv0_isDay rfl ⟨(Nat.le_of_ble_eq_true rfl), (Nat.le_of_ble_eq_true rfl)⟩ rfl (Nat.le_of_ble_eq_true rfl) dX0_close_1 ⟨Nat.le_refl 0, Nat.le_refl 0⟩ ?_
  refine j_if_eq (w32 x1) rfl 15 dX0_close_4 (by decide) (fun h10 => ?_) (fun h10 => ?_)
  · replace hf := it h10 hf
    refine j_bipush dX0_close_15 (by decide) ?_
    replace hf := Option.some.inj hf
    subst hf
    exact j_ireturn (bC_mv G A) ⟨Nat.le_refl 0, Nat.le_refl 0⟩ rfl dX0_close_17
  · replace hf := ie h10 hf
    refine j_iload_n dX0_close_7 1 rfl ?_
    refine j_aload_n dX0_close_8 0 rfl ?_
    obtain ⟨x2, hx2, hf⟩ := ob hf
    refine c_geti (ci := 0) (k := 23) hx2 zcl_0 (Nat.le_of_ble_eq_true rfl) zf_X0_500 fk_23 dX0_close_9 ?_
    refine j_icmp_ge (w32 v1) (w32 x2) rfl rfl 18 dX0_close_12 (by decide) (fun h9 => ?_) (fun h9 => ?_)
    · replace hf := it h9 hf
      refine j_iconst dX0_close_18 ?_
      refine j_istore_n dX0_close_19 [(2, pI 1), (0, pR v0), (1, pI v1)] (Nat.le_of_ble_eq_true rfl) rfl ?_
      refine j_sub [1, 2, 0] _ rfl (t0_close_l20 v0 v1 ?_ NN 1 u hf)
      · intro q3 hf
        refine j_iconst dX0_close_45 ?_
        refine j_istore_n dX0_close_46 [(2, pI 0), (0, pR v0), (1, pI v1)] (Nat.le_of_ble_eq_true rfl) rfl ?_
        refine j_iconst dX0_close_47 ?_
        refine j_istore_n dX0_close_48 [(3, pI 0), (2, pI 0), (0, pR v0), (1, pI v1)] (Nat.le_of_ble_eq_true rfl) rfl ?_
        refine j_sub [2, 3, 1, 0] _ rfl (t0_close_l49 v0 v1 q3 ?_ NN 0 0 hf)
        · intro q4 hf
          refine j_aload_n dX0_close_137 0 rfl ?_
          obtain ⟨x5, hx5, hf⟩ := ob hf
          refine c_geti (ci := 0) (k := 22) hx5 zcl_0 (Nat.le_of_ble_eq_true rfl) zf_X0_497 fk_22 dX0_close_138 ?_
          refine j_iload_n dX0_close_141 2 rfl ?_
          refine j_iadd dX0_close_142 ?_
          refine j_sipush dX0_close_143 (by decide) ?_
          refine j_icmp_le (w32 (x5 + q4)) 400 rfl rfl 152 dX0_close_146 (by decide) (fun h8 => ?_) (fun h8 => ?_)
          · replace hf := it h8 hf
            refine j_aload_n dX0_close_152 0 rfl ?_
            refine j_iload_n dX0_close_153 1 rfl ?_
            obtain ⟨u6, hu6, hf⟩ := ob hf
            refine c_puti (ci := 0) (k := 23) hu6 zcl_0 (Nat.le_of_ble_eq_true rfl) zf_X0_500 fk_23 rfl fits_I dX0_close_154 ?_
            refine j_iconst dX0_close_157 ?_
            refine j_istore_n dX0_close_158 [(3, pI 0), (0, pR v0), (1, pI v1), (2, pI q4)] (Nat.le_of_ble_eq_true rfl) rfl ?_
            refine j_sub [1, 2, 3, 0] _ rfl (t0_close_l159 v0 v1 q4 ?_ NN 0 u6 hf)
            · intro q7 hf
              refine j_iload_n dX0_close_313 0 rfl ?_
              replace hf := Option.some.inj hf
              subst hf
              exact j_ireturn (bC_mv G A) ⟨Nat.le_refl 0, Nat.le_refl 0⟩ rfl dX0_close_314
          · replace hf := ie h8 hf
            refine j_bipush dX0_close_149 (by decide) ?_
            replace hf := Option.some.inj hf
            subst hf
            exact j_ireturn (bC_mv G A) ⟨Nat.le_refl 0, Nat.le_refl 0⟩ rfl dX0_close_151
    · replace hf := ie h9 hf
      refine j_bipush dX0_close_15 (by decide) ?_
      replace hf := Option.some.inj hf
      subst hf
      exact j_ireturn (bC_mv G A) ⟨Nat.le_refl 0, Nat.le_refl 0⟩ rfl dX0_close_17
theorem t0_row {G : CG} {A : Nat → Prop} {l : Launch} {r : Int} (v0 : Option Nat) (v1 : Int) (v2 : Int) (u : Sg) (hf : f0_row G v0 v1 v2 u = some r) : JM kC (bC G A) A l yX0_row D0_row [pR v0, pI v1, pI v2] u (some (pI r)) u 0 0 := by
  refine j_met (lv0 := [(0, pR v0), (1, pI v1), (2, pI v2)]) ⟨pl_X0, rfl, rfl, (Nat.le_of_ble_eq_true rfl), rfl⟩ ?_
  unfold f0_row at hf
  refine j_iload_n dX0_row_0 1 rfl ?_
  refine j_if_lt (w32 v1) rfl 12 dX0_row_1 (by decide) (fun h15 => ?_) (fun h15 => ?_)
  · replace hf := it h15 hf
    refine j_iconst dX0_row_12 ?_
    replace hf := Option.some.inj hf
    subst hf
    exact j_ireturn (bC_mv G A) ⟨Nat.le_refl 0, Nat.le_refl 0⟩ rfl dX0_row_13
  · replace hf := ie h15 hf
    refine j_iload_n dX0_row_4 1 rfl ?_
    refine j_aload_n dX0_row_5 0 rfl ?_
    obtain ⟨x1, hx1, hf⟩ := ob hf
    refine c_geti (ci := 0) (k := 22) hx1 zcl_0 (Nat.le_of_ble_eq_true rfl) zf_X0_497 fk_22 dX0_row_6 ?_
    refine j_icmp_lt (w32 v1) (w32 x1) rfl rfl 14 dX0_row_9 (by decide) (fun h14 => ?_) (fun h14 => ?_)
    · replace hf := it h14 hf
      refine j_iload_n dX0_row_14 2 rfl ?_
      rcases Decidable.em ((w32 v2) = 0) with h2 | h2
      · replace hf := it h2 hf
        refine j_tabIn (z := 0) 44 dX0_row_15 h2 ⟨⟨by decide, by decide⟩, rfl⟩ (by decide) ?_
        refine j_aload_n dX0_row_44 0 rfl ?_
        obtain ⟨x3, hx3, hf⟩ := ob hf
        refine c_geta (ci := 0) (k := 18) hx3 zcl_0 (Nat.le_of_ble_eq_true rfl) zf_X0_134 fk_18 dX0_row_45 ?_
        refine j_iload_n dX0_row_48 1 rfl ?_
        obtain ⟨x4, hx4, hf⟩ := ob hf
        refine c_iald hx4 dX0_row_49 ?_
        replace hf := Option.some.inj hf
        subst hf
        exact j_ireturn (bC_mv G A) ⟨Nat.le_refl 0, Nat.le_refl 0⟩ rfl dX0_row_50
      replace hf := ie h2 hf
      rcases Decidable.em ((w32 v2) = 1) with h5 | h5
      · replace hf := it h5 hf
        refine j_tabIn (z := 1) 51 dX0_row_15 h5 ⟨⟨by decide, by decide⟩, rfl⟩ (by decide) ?_
        refine j_aload_n dX0_row_51 0 rfl ?_
        obtain ⟨x6, hx6, hf⟩ := ob hf
        refine c_geta (ci := 0) (k := 19) hx6 zcl_0 (Nat.le_of_ble_eq_true rfl) zf_X0_137 fk_19 dX0_row_52 ?_
        refine j_iload_n dX0_row_55 1 rfl ?_
        obtain ⟨x7, hx7, hf⟩ := ob hf
        refine c_iald hx7 dX0_row_56 ?_
        replace hf := Option.some.inj hf
        subst hf
        exact j_ireturn (bC_mv G A) ⟨Nat.le_refl 0, Nat.le_refl 0⟩ rfl dX0_row_57
      replace hf := ie h5 hf
      rcases Decidable.em ((w32 v2) = 2) with h8 | h8
      · replace hf := it h8 hf
        refine j_tabIn (z := 2) 58 dX0_row_15 h8 ⟨⟨by decide, by decide⟩, rfl⟩ (by decide) ?_
        refine j_aload_n dX0_row_58 0 rfl ?_
        obtain ⟨x9, hx9, hf⟩ := ob hf
        refine c_geta (ci := 0) (k := 20) hx9 zcl_0 (Nat.le_of_ble_eq_true rfl) zf_X0_140 fk_20 dX0_row_59 ?_
        refine j_iload_n dX0_row_62 1 rfl ?_
        obtain ⟨x10, hx10, hf⟩ := ob hf
        refine c_iald hx10 dX0_row_63 ?_
        replace hf := Option.some.inj hf
        subst hf
        exact j_ireturn (bC_mv G A) ⟨Nat.le_refl 0, Nat.le_refl 0⟩ rfl dX0_row_64
      replace hf := ie h8 hf
      rcases Decidable.em ((w32 v2) = 3) with h11 | h11
      · replace hf := it h11 hf
        refine j_tabIn (z := 3) 65 dX0_row_15 h11 ⟨⟨by decide, by decide⟩, rfl⟩ (by decide) ?_
        refine j_aload_n dX0_row_65 0 rfl ?_
        obtain ⟨x12, hx12, hf⟩ := ob hf
        refine c_geta (ci := 0) (k := 21) hx12 zcl_0 (Nat.le_of_ble_eq_true rfl) zf_X0_143 fk_21 dX0_row_66 ?_
        refine j_iload_n dX0_row_69 1 rfl ?_
        obtain ⟨x13, hx13, hf⟩ := ob hf
        refine c_iald hx13 dX0_row_70 ?_
        replace hf := Option.some.inj hf
        subst hf
        exact j_ireturn (bC_mv G A) ⟨Nat.le_refl 0, Nat.le_refl 0⟩ rfl dX0_row_71
      replace hf := ie h11 hf
      refine j_tabOut 72 dX0_row_15 (by omega) (by decide) ?_
      refine j_bipush dX0_row_72 (by decide) ?_
      replace hf := Option.some.inj hf
      subst hf
      exact j_ireturn (bC_mv G A) ⟨Nat.le_refl 0, Nat.le_refl 0⟩ rfl dX0_row_74
    · replace hf := ie h14 hf
      refine j_iconst dX0_row_12 ?_
      replace hf := Option.some.inj hf
      subst hf
      exact j_ireturn (bC_mv G A) ⟨Nat.le_refl 0, Nat.le_refl 0⟩ rfl dX0_row_13
theorem t0_balance_b30 {G : CG} {A : Nat → Prop} {l : Launch} {a : List PV} {r : Int} {Kf : Int → Option (Int)} {v0 : Option Nat} {v1 : Int} {u : Sg} (kh : Int → Int → Option (Int)) (hkh : ∀ (z2 : Int) (z4 : Int), ((kh z2 z4).bind Kf = some r) → JW kC (bC G A) A l D0_balance a (jQ (bC G A) A a (some (pL r)) u 0 0) 0 0 u 0 0 5 [(0, pR v0), (1, pI v1), (2, pL z2), (4, pI z4)] []) (hK0 : ∀ q : Int, Kf q = some r → JW kC (bC G A) A l D0_balance a (jQ (bC G A) A a (some (pL r)) u 0 0) 0 0 u 0 0 47 [(2, pL q)] []) (v2 : Int) (v4 : Int) (hf : (f0_balance_b30 G kh v0 v1 v2 v4 u).bind Kf = some r) : JW kC (bC G A) A l D0_balance a (jQ (bC G A) A a (some (pL r)) u 0 0) 0 0 u 0 0 30 [(0, pR v0), (1, pI v1), (2, pL v2), (4, pI v4)] [] := by
  unfold f0_balance_b30 at hf
  refine j_lload_n dX0_balance_30 2 rfl ?_
  refine j_aload_n dX0_balance_31 0 rfl ?_
  obtain ⟨x1, hx1, hf⟩ := obb hf
  refine c_geta (ci := 0) (k := 20) hx1 zcl_0 (Nat.le_of_ble_eq_true rfl) zf_X0_140 fk_20 dX0_balance_32 ?_
  refine j_iload dX0_balance_35 3 rfl ?_
  obtain ⟨x2, hx2, hf⟩ := obb hf
  refine c_iald hx2 dX0_balance_37 ?_
  refine j_i2l dX0_balance_38 ?_
  refine j_ladd dX0_balance_39 ?_
  refine j_lstore_n dX0_balance_40 [(2, pL (v2 + (w32 x2))), (0, pR v0), (1, pI v1), (4, pI v4)] (Nat.le_of_ble_eq_true rfl) rfl ?_
  refine j_iinc dX0_balance_41 3 rfl [(4, pI (v4 + 1)), (2, pL (v2 + (w32 x2))), (0, pR v0), (1, pI v1)] (Nat.le_of_ble_eq_true rfl) rfl ?_
  refine j_goto 5 dX0_balance_44 (by decide) ?_
  exact j_sub [2, 3, 1, 0] _ rfl (hkh (v2 + (w32 x2)) (v4 + 1) hf)
theorem t0_balance_l5 {G : CG} {A : Nat → Prop} {l : Launch} {a : List PV} {r : Int} {Kf : Int → Option (Int)} (v0 : Option Nat) (v1 : Int) (u : Sg) (hK0 : ∀ q : Int, Kf q = some r → JW kC (bC G A) A l D0_balance a (jQ (bC G A) A a (some (pL r)) u 0 0) 0 0 u 0 0 47 [(2, pL q)] []) : ∀ (n : Nat) (v2 : Int) (v4 : Int), ((f0_balance_l5 G v0 v1 u n v2 v4).bind Kf = some r) → JW kC (bC G A) A l D0_balance a (jQ (bC G A) A a (some (pL r)) u 0 0) 0 0 u 0 0 5 [(0, pR v0), (1, pI v1), (2, pL v2), (4, pI v4)] [] := by
  intro n
  induction n with
  | zero => intro v2 v4 hf; exact onb hf
  | succ n ih =>
    intro v2 v4 hf
    unfold f0_balance_l5 at hf
    refine j_iload dX0_balance_5 3 rfl ?_
    refine j_aload_n dX0_balance_7 0 rfl ?_
    obtain ⟨x1, hx1, hf⟩ := obb hf
    refine c_geti (ci := 0) (k := 22) hx1 zcl_0 (Nat.le_of_ble_eq_true rfl) zf_X0_497 fk_22 dX0_balance_8 ?_
    refine j_icmp_ge (w32 v4) (w32 x1) rfl rfl 47 dX0_balance_11 (by decide) (fun h6 => ?_) (fun h6 => ?_)
    · replace hf := itb h6 hf
      exact j_sub [2] _ rfl (hK0 v2 hf)
    · replace hf := ieb h6 hf
      refine j_iload_n dX0_balance_14 1 rfl ?_
      refine j_iconst dX0_balance_15 ?_
      refine j_icmp_eq (w32 v1) (-1) rfl rfl 30 dX0_balance_16 (by decide) (fun h5 => ?_) (fun h5 => ?_)
      · replace hf := itb h5 hf
        exact j_sub [0, 1, 2, 3] _ rfl (t0_balance_b30 (f0_balance_l5 G v0 v1 u n) ih hK0 v2 v4 hf)
      · replace hf := ieb h5 hf
        refine j_aload_n dX0_balance_19 0 rfl ?_
        obtain ⟨x2, hx2, hf⟩ := obb hf
        refine c_geta (ci := 0) (k := 19) hx2 zcl_0 (Nat.le_of_ble_eq_true rfl) zf_X0_137 fk_19 dX0_balance_20 ?_
        refine j_iload dX0_balance_23 3 rfl ?_
        obtain ⟨x3, hx3, hf⟩ := obb hf
        refine c_iald hx3 dX0_balance_25 ?_
        refine j_iload_n dX0_balance_26 1 rfl ?_
        refine j_icmp_ne (w32 x3) (w32 v1) rfl rfl 41 dX0_balance_27 (by decide) (fun h4 => ?_) (fun h4 => ?_)
        · replace hf := ieb h4 hf
          refine j_iinc dX0_balance_41 3 rfl [(4, pI (v4 + 1)), (0, pR v0), (1, pI v1), (2, pL v2)] (Nat.le_of_ble_eq_true rfl) rfl ?_
          refine j_goto 5 dX0_balance_44 (by decide) ?_
          exact j_sub [1, 2, 3, 0] _ rfl (ih v2 (v4 + 1) hf)
        · replace hf := itb h4 hf
          exact j_sub [0, 1, 2, 3] _ rfl (t0_balance_b30 (f0_balance_l5 G v0 v1 u n) ih hK0 v2 v4 hf)
theorem t0_balance {G : CG} {A : Nat → Prop} {l : Launch} {r : Int} (v0 : Option Nat) (v1 : Int) (u : Sg) (hf : f0_balance G v0 v1 u = some r) : JM kC (bC G A) A l yX0_balance D0_balance [pR v0, pI v1] u (some (pL r)) u 0 0 := by
  refine j_met (lv0 := [(0, pR v0), (1, pI v1)]) ⟨pl_X0, rfl, rfl, (Nat.le_of_ble_eq_true rfl), rfl⟩ ?_
  unfold f0_balance at hf
  refine j_lconst (z := 0) dX0_balance_0 rfl ?_
  refine j_lstore_n dX0_balance_1 [(2, pL 0), (0, pR v0), (1, pI v1)] (Nat.le_of_ble_eq_true rfl) rfl ?_
  refine j_iconst dX0_balance_2 ?_
  refine j_istore dX0_balance_3 [(4, pI 0), (2, pL 0), (0, pR v0), (1, pI v1)] (Nat.le_of_ble_eq_true rfl) rfl ?_
  refine j_sub [2, 3, 1, 0] _ rfl (t0_balance_l5 v0 v1 u ?_ NN 0 0 hf)
  · intro q1 hf
    refine j_lload_n dX0_balance_47 0 rfl ?_
    replace hf := Option.some.inj hf
    subst hf
    exact j_lreturn (bC_mv G A) ⟨Nat.le_refl 0, Nat.le_refl 0⟩ rfl dX0_balance_48
theorem t0_gridAt_l18 {G : CG} {A : Nat → Prop} {l : Launch} {a : List PV} {r : Int × Sg} {Kf : Sg → Option (Int × Sg)} (v0 : Option Nat) (v1 : Int) (v3 : Int) (v4 : Int) (hK0 : ∀ q : Sg, Kf q = some r → JW kC (bC G A) A l D0_gridAt a (jQ (bC G A) A a (some (pL r.1)) r.2 0 0) 0 0 q 0 0 45 [(0, pR v0), (1, pI v1), (4, pL v4)] []) : ∀ (n : Nat) (v6 : Int) (u : Sg), ((f0_gridAt_l18 G v0 v1 v3 v4 n v6 u).bind Kf = some r) → JW kC (bC G A) A l D0_gridAt a (jQ (bC G A) A a (some (pL r.1)) r.2 0 0) 0 0 u 0 0 18 [(0, pR v0), (1, pI v1), (3, pI v3), (4, pL v4), (6, pI v6)] [] := by
  intro n
  induction n with
  | zero => intro v6 u hf; exact onb hf
  | succ n ih =>
    intro v6 u hf
    unfold f0_gridAt_l18 at hf
    refine j_iload dX0_gridAt_18 4 rfl ?_
    refine j_aload_n dX0_gridAt_20 0 rfl ?_
    obtain ⟨x1, hx1, hf⟩ := obb hf
    refine c_geta (ci := 0) (k := 7) hx1 zcl_0 (Nat.le_of_ble_eq_true rfl) zf_X0_89 fk_7 dX0_gridAt_21 ?_
    obtain ⟨b2, hb2, hf⟩ := obb hf
    obtain ⟨eb2, tb2⟩ := ztg_s hb2
    obtain ⟨x3, hx3, hf⟩ := obb hf
    refine a_Fr (x := ix_0) [] [pI v6] (tJ2_size (some b2) u hx3) ⟨q556, q559, q561, q131, q563⟩ iF_0 df_0 rfl ⟨(Nat.le_of_ble_eq_true rfl), (Nat.le_of_ble_eq_true rfl)⟩ zcl_5 rfl tb2 (by rw [← eb2]; rfl) (Nat.le_of_ble_eq_true rfl) dX0_gridAt_24 ⟨Nat.le_refl 0, Nat.le_refl 0⟩ ?_
    refine j_icmp_gt (w32 v6) (w32 x3) rfl rfl 45 dX0_gridAt_29 (by decide) (fun h6 => ?_) (fun h6 => ?_)
    · replace hf := itb h6 hf
      exact j_sub [0, 1, 3] _ rfl (hK0 u hf)
    · replace hf := ieb h6 hf
      refine j_aload_n dX0_gridAt_32 0 rfl ?_
      refine j_iload dX0_gridAt_33 4 rfl ?_
      refine j_iload_n dX0_gridAt_35 2 rfl ?_
      obtain ⟨b4, hb4, hf⟩ := obb hf
      obtain ⟨eb4, tb4⟩ := ztg_s hb4
      obtain ⟨u5, hu5, hf⟩ := obb hf
      refine a_Vv [pI v6, pI v3] [] (t0_payAll (some b4) v6 v3 u hu5) ⟨q1689, q1691, qs45, q128, q1692⟩ dv0_payAll rfl ⟨(Nat.le_of_ble_eq_true rfl), (Nat.le_of_ble_eq_true rfl)⟩ (c_recv zcl_0 tb4) (by rw [← eb4]; rfl) (Nat.le_of_ble_eq_true rfl) dX0_gridAt_36 ⟨Nat.le_refl 0, Nat.le_refl 0⟩ ?_
      refine j_iinc dX0_gridAt_39 4 rfl [(6, pI (v6 + 1)), (0, pR v0), (1, pI v1), (3, pI v3), (4, pL v4)] (Nat.le_of_ble_eq_true rfl) rfl ?_
      refine j_goto 18 dX0_gridAt_42 (by decide) ?_
      exact j_sub [1, 2, 3, 4, 0] _ rfl (ih (v6 + 1) u5 hf)
theorem t0_gridAt_b101 {G : CG} {A : Nat → Prop} {l : Launch} {a : List PV} {r : Int × Sg} {Kf : Int → Option (Int × Sg)} {v0 : Option Nat} {v1 : Int} {u : Sg} (kh : Int → Int → Option (Int)) (hkh : ∀ (z4 : Int) (z6 : Int), ((kh z4 z6).bind Kf = some r) → JW kC (bC G A) A l D0_gridAt a (jQ (bC G A) A a (some (pL r.1)) r.2 0 0) 0 0 u 0 0 48 [(0, pR v0), (1, pI v1), (4, pL z4), (6, pI z6)] []) (hK0 : ∀ q : Int, Kf q = some r → JW kC (bC G A) A l D0_gridAt a (jQ (bC G A) A a (some (pL r.1)) r.2 0 0) 0 0 u 0 0 110 [(4, pL q)] []) (v6 : Int) (s0 : Int) (s1 : Int) (hf : (f0_gridAt_b101 G kh v0 v1 v6 s0 s1 u).bind Kf = some r) : JW kC (bC G A) A l D0_gridAt a (jQ (bC G A) A a (some (pL r.1)) r.2 0 0) 0 0 u 0 0 101 [(0, pR v0), (1, pI v1), (6, pI v6)] [pL s1, pL s0] := by
  unfold f0_gridAt_b101 at hf
  refine j_ladd dX0_gridAt_101 ?_
  refine j_lstore dX0_gridAt_102 [(4, pL (s0 + s1)), (0, pR v0), (1, pI v1), (6, pI v6)] (Nat.le_of_ble_eq_true rfl) rfl ?_
  refine j_iinc dX0_gridAt_104 3 rfl [(6, pI (v6 + 1)), (4, pL (s0 + s1)), (0, pR v0), (1, pI v1)] (Nat.le_of_ble_eq_true rfl) rfl ?_
  refine j_goto 48 dX0_gridAt_107 (by decide) ?_
  exact j_sub [2, 3, 1, 0] _ rfl (hkh (s0 + s1) (v6 + 1) hf)
theorem t0_gridAt_l48 {G : CG} {A : Nat → Prop} {l : Launch} {a : List PV} {r : Int × Sg} {Kf : Int → Option (Int × Sg)} (v0 : Option Nat) (v1 : Int) (u : Sg) (hK0 : ∀ q : Int, Kf q = some r → JW kC (bC G A) A l D0_gridAt a (jQ (bC G A) A a (some (pL r.1)) r.2 0 0) 0 0 u 0 0 110 [(4, pL q)] []) : ∀ (n : Nat) (v4 : Int) (v6 : Int), ((f0_gridAt_l48 G v0 v1 u n v4 v6).bind Kf = some r) → JW kC (bC G A) A l D0_gridAt a (jQ (bC G A) A a (some (pL r.1)) r.2 0 0) 0 0 u 0 0 48 [(0, pR v0), (1, pI v1), (4, pL v4), (6, pI v6)] [] := by
  intro n
  induction n with
  | zero => intro v4 v6 hf; exact onb hf
  | succ n ih =>
    intro v4 v6 hf
    unfold f0_gridAt_l48 at hf
    refine j_iload dX0_gridAt_48 3 rfl ?_
    refine j_aload_n dX0_gridAt_50 0 rfl ?_
    obtain ⟨x1, hx1, hf⟩ := obb hf
    refine c_geta (ci := 0) (k := 8) hx1 zcl_0 (Nat.le_of_ble_eq_true rfl) zf_X0_92 fk_8 dX0_gridAt_51 ?_
    obtain ⟨b2, hb2, hf⟩ := obb hf
    obtain ⟨eb2, tb2⟩ := ztg_s hb2
    obtain ⟨x3, hx3, hf⟩ := obb hf
    refine a_Fr (x := ix_0) [] [pI v6] (tJ2_size (some b2) u hx3) ⟨q556, q559, q561, q131, q563⟩ iF_0 df_0 rfl ⟨(Nat.le_of_ble_eq_true rfl), (Nat.le_of_ble_eq_true rfl)⟩ zcl_5 rfl tb2 (by rw [← eb2]; rfl) (Nat.le_of_ble_eq_true rfl) dX0_gridAt_54 ⟨Nat.le_refl 0, Nat.le_refl 0⟩ ?_
    refine j_icmp_ge (w32 v6) (w32 x3) rfl rfl 110 dX0_gridAt_59 (by decide) (fun h12 => ?_) (fun h12 => ?_)
    · replace hf := itb h12 hf
      exact j_sub [2] _ rfl (hK0 v4 hf)
    · replace hf := ieb h12 hf
      refine j_lload dX0_gridAt_62 2 rfl ?_
      refine j_aload_n dX0_gridAt_64 0 rfl ?_
      obtain ⟨x4, hx4, hf⟩ := obb hf
      refine c_geta (ci := 0) (k := 8) hx4 zcl_0 (Nat.le_of_ble_eq_true rfl) zf_X0_92 fk_8 dX0_gridAt_65 ?_
      refine j_iload dX0_gridAt_68 3 rfl ?_
      obtain ⟨b5, hb5, hf⟩ := obb hf
      obtain ⟨eb5, tb5⟩ := ztg_s hb5
      obtain ⟨x6, hx6, hf⟩ := obb hf
      refine a_Fr (x := ix_1) [pI v6] [pL v4] (tJ2_get (some b5) v6 u hx6) ⟨q1273, q813, q815, q131, q817⟩ iF_1 df_1 rfl ⟨(Nat.le_of_ble_eq_true rfl), (Nat.le_of_ble_eq_true rfl)⟩ zcl_5 rfl tb5 (by rw [← eb5]; rfl) (Nat.le_of_ble_eq_true rfl) dX0_gridAt_70 ⟨Nat.le_refl 0, Nat.le_refl 0⟩ ?_
      obtain ⟨y7, hy7, hf⟩ := obb hf
      refine c_cast hy7 zok_Claim q1642 dX0_gridAt_75 ?_
      obtain ⟨x8, hx8, hf⟩ := obb hf
      refine c_getiN (ci := 21) (k := 2) hx8 zcl_21 (Nat.le_of_ble_eq_true rfl) zf_X0_456 fk_842 dX0_gridAt_78 ?_
      refine j_sipush dX0_gridAt_81 (by decide) ?_
      refine j_idiv dX0_gridAt_84 (by decide) ?_
      refine j_iload_n dX0_gridAt_85 1 rfl ?_
      refine j_icmp_ne (w32 (div32 x8 365)) (w32 v1) rfl rfl 100 dX0_gridAt_86 (by decide) (fun h11 => ?_) (fun h11 => ?_)
      · replace hf := ieb h11 hf
        refine j_lconst (z := 0) dX0_gridAt_100 rfl ?_
        exact j_sub [0, 1, 3] _ rfl (t0_gridAt_b101 (f0_gridAt_l48 G v0 v1 u n) ih hK0 v6 v4 0 hf)
      · replace hf := itb h11 hf
        refine j_aload_n dX0_gridAt_89 0 rfl ?_
        obtain ⟨x9, hx9, hf⟩ := obb hf
        refine c_geta (ci := 0) (k := 16) hx9 zcl_0 (Nat.le_of_ble_eq_true rfl) zf_X0_128 fk_16 dX0_gridAt_90 ?_
        refine j_iload dX0_gridAt_93 3 rfl ?_
        obtain ⟨x10, hx10, hf⟩ := obb hf
        refine c_iald hx10 dX0_gridAt_95 ?_
        refine j_i2l dX0_gridAt_96 ?_
        refine j_goto 101 dX0_gridAt_97 (by decide) ?_
        exact j_sub [0, 1, 3] _ rfl (t0_gridAt_b101 (f0_gridAt_l48 G v0 v1 u n) ih hK0 v6 v4 (w32 x10) hf)
theorem t0_gridAt {G : CG} {A : Nat → Prop} {l : Launch} {r : Int × Sg} (v0 : Option Nat) (v1 : Int) (v2 : Int) (u : Sg) (hf : f0_gridAt G v0 v1 v2 u = some r) : JM kC (bC G A) A l yX0_gridAt D0_gridAt [pR v0, pI v1, pI v2] u (some (pL r.1)) r.2 0 0 := by
  refine j_met (lv0 := [(0, pR v0), (1, pI v1), (2, pI v2)]) ⟨pl_X0, rfl, rfl, (Nat.le_of_ble_eq_true rfl), rfl⟩ ?_
  unfold f0_gridAt at hf
  refine j_iload_n dX0_gridAt_0 1 rfl ?_
  refine j_iload_n dX0_gridAt_1 2 rfl ?_
  refine j_iadd dX0_gridAt_2 ?_
  refine j_iconst dX0_gridAt_3 ?_
  refine j_iadd dX0_gridAt_4 ?_
  refine j_sipush dX0_gridAt_5 (by decide) ?_
  refine j_imul dX0_gridAt_8 ?_
  refine j_iconst dX0_gridAt_9 ?_
  refine j_isub dX0_gridAt_10 ?_
  refine j_istore_n dX0_gridAt_11 [(3, pI ((((v1 + v2) + 1) * 365) - 1)), (0, pR v0), (1, pI v1), (2, pI v2)] (Nat.le_of_ble_eq_true rfl) rfl ?_
  refine j_lconst (z := 0) dX0_gridAt_12 rfl ?_
  refine j_lstore dX0_gridAt_13 [(4, pL 0), (3, pI ((((v1 + v2) + 1) * 365) - 1)), (0, pR v0), (1, pI v1), (2, pI v2)] (Nat.le_of_ble_eq_true rfl) rfl ?_
  refine j_iconst dX0_gridAt_15 ?_
  refine j_istore dX0_gridAt_16 [(6, pI 1), (4, pL 0), (3, pI ((((v1 + v2) + 1) * 365) - 1)), (0, pR v0), (1, pI v1), (2, pI v2)] (Nat.le_of_ble_eq_true rfl) rfl ?_
  refine j_sub [3, 4, 2, 1, 0] _ rfl (t0_gridAt_l18 v0 v1 ((((v1 + v2) + 1) * 365) - 1) 0 ?_ NN 1 u hf)
  · intro q1 hf
    refine j_iconst dX0_gridAt_45 ?_
    refine j_istore dX0_gridAt_46 [(6, pI 0), (0, pR v0), (1, pI v1), (4, pL 0)] (Nat.le_of_ble_eq_true rfl) rfl ?_
    refine j_sub [1, 2, 3, 0] _ rfl (t0_gridAt_l48 v0 v1 q1 ?_ NN 0 0 hf)
    · intro q2 hf
      refine j_lload dX0_gridAt_110 0 rfl ?_
      replace hf := Option.some.inj hf
      subst hf
      exact j_lreturn (bC_mv G A) ⟨Nat.le_refl 0, Nat.le_refl 0⟩ rfl dX0_gridAt_112
theorem t0_paid {G : CG} {A : Nat → Prop} {l : Launch} {r : Int × Sg} (v0 : Option Nat) (v1 : Int) (v2 : Int) (u : Sg) (hf : f0_paid G v0 v1 v2 u = some r) : JM kC (bC G A) A l yX0_paid D0_paid [pR v0, pI v1, pI v2] u (some (pL r.1)) r.2 0 0 := by
  refine j_met (lv0 := [(0, pR v0), (1, pI v1), (2, pI v2)]) ⟨pl_X0, rfl, rfl, (Nat.le_of_ble_eq_true rfl), rfl⟩ ?_
  unfold f0_paid at hf
  refine j_iload_n dX0_paid_0 1 rfl ?_
  refine j_if_lt (w32 v1) rfl 28 dX0_paid_1 (by decide) (fun h7 => ?_) (fun h7 => ?_)
  · replace hf := it h7 hf
    refine j_ldc2 (z := (-2)) q1711 (by decide) dX0_paid_28 ?_
    replace hf := Option.some.inj hf
    subst hf
    exact j_lreturn (bC_mv G A) ⟨Nat.le_refl 0, Nat.le_refl 0⟩ rfl dX0_paid_31
  · replace hf := ie h7 hf
    refine j_iload_n dX0_paid_4 1 rfl ?_
    refine j_bipush dX0_paid_5 (by decide) ?_
    refine j_icmp_gt (w32 v1) 9 rfl rfl 28 dX0_paid_7 (by decide) (fun h6 => ?_) (fun h6 => ?_)
    · replace hf := it h6 hf
      refine j_ldc2 (z := (-2)) q1711 (by decide) dX0_paid_28 ?_
      replace hf := Option.some.inj hf
      subst hf
      exact j_lreturn (bC_mv G A) ⟨Nat.le_refl 0, Nat.le_refl 0⟩ rfl dX0_paid_31
    · replace hf := ie h6 hf
      refine j_iload_n dX0_paid_10 2 rfl ?_
      refine j_if_lt (w32 v2) rfl 28 dX0_paid_11 (by decide) (fun h5 => ?_) (fun h5 => ?_)
      · replace hf := it h5 hf
        refine j_ldc2 (z := (-2)) q1711 (by decide) dX0_paid_28 ?_
        replace hf := Option.some.inj hf
        subst hf
        exact j_lreturn (bC_mv G A) ⟨Nat.le_refl 0, Nat.le_refl 0⟩ rfl dX0_paid_31
      · replace hf := ie h5 hf
        refine j_iload_n dX0_paid_14 2 rfl ?_
        refine j_bipush dX0_paid_15 (by decide) ?_
        refine j_icmp_gt (w32 v2) 9 rfl rfl 28 dX0_paid_17 (by decide) (fun h4 => ?_) (fun h4 => ?_)
        · replace hf := it h4 hf
          refine j_ldc2 (z := (-2)) q1711 (by decide) dX0_paid_28 ?_
          replace hf := Option.some.inj hf
          subst hf
          exact j_lreturn (bC_mv G A) ⟨Nat.le_refl 0, Nat.le_refl 0⟩ rfl dX0_paid_31
        · replace hf := ie h4 hf
          refine j_iload_n dX0_paid_20 1 rfl ?_
          refine j_iload_n dX0_paid_21 2 rfl ?_
          refine j_iadd dX0_paid_22 ?_
          refine j_bipush dX0_paid_23 (by decide) ?_
          refine j_icmp_le (w32 (v1 + v2)) 26 rfl rfl 32 dX0_paid_25 (by decide) (fun h3 => ?_) (fun h3 => ?_)
          · replace hf := it h3 hf
            refine j_aload_n dX0_paid_32 0 rfl ?_
            refine j_iload_n dX0_paid_33 1 rfl ?_
            refine j_iload_n dX0_paid_34 2 rfl ?_
            obtain ⟨b1, hb1, hf⟩ := ob hf
            obtain ⟨eb1, tb1⟩ := ztg_s hb1
            obtain ⟨q2, hq2, hf⟩ := ob hf
            refine a_Vr [pI v1, pI v2] [] (t0_gridAt (some b1) v1 v2 u hq2) ⟨q1746, q1748, qs50, q128, q1749⟩ dv0_gridAt rfl ⟨(Nat.le_of_ble_eq_true rfl), (Nat.le_of_ble_eq_true rfl)⟩ (c_recv zcl_0 tb1) (by rw [← eb1]; rfl) (Nat.le_of_ble_eq_true rfl) dX0_paid_35 ⟨Nat.le_refl 0, Nat.le_refl 0⟩ ?_
            replace hf := Option.some.inj hf
            subst hf
            exact j_lreturn (bC_mv G A) ⟨Nat.le_refl 0, Nat.le_refl 0⟩ rfl dX0_paid_38
          · replace hf := ie h3 hf
            refine j_ldc2 (z := (-2)) q1711 (by decide) dX0_paid_28 ?_
            replace hf := Option.some.inj hf
            subst hf
            exact j_lreturn (bC_mv G A) ⟨Nat.le_refl 0, Nat.le_refl 0⟩ rfl dX0_paid_31
theorem t0_end_l33 {G : CG} {A : Nat → Prop} {l : Launch} {a : List PV} {r : Int × Sg} {Kf : Sg → Option (Int × Sg)} (v0 : Option Nat) (v1 : Int) (v2 : Int) (v3 : Int) (hK0 : ∀ q : Sg, Kf q = some r → JW kC (bC G A) A l D0_end a (jQ (bC G A) A a (some (pL r.1)) r.2 0 0) 0 0 q 0 0 66 [(0, pR v0), (1, pI v1), (2, pI v2), (3, pI v3)] []) : ∀ (n : Nat) (v4 : Int) (u : Sg), ((f0_end_l33 G v0 v1 v2 v3 n v4 u).bind Kf = some r) → JW kC (bC G A) A l D0_end a (jQ (bC G A) A a (some (pL r.1)) r.2 0 0) 0 0 u 0 0 33 [(0, pR v0), (1, pI v1), (2, pI v2), (3, pI v3), (4, pI v4)] [] := by
  intro n
  induction n with
  | zero => intro v4 u hf; exact onb hf
  | succ n ih =>
    intro v4 u hf
    unfold f0_end_l33 at hf
    refine j_iload_n dX0_end_33 3 rfl ?_
    refine j_iload dX0_end_34 4 rfl ?_
    refine j_iadd dX0_end_36 ?_
    refine j_iload_n dX0_end_37 2 rfl ?_
    refine j_icmp_gt (w32 (v3 + v4)) (w32 v2) rfl rfl 66 dX0_end_38 (by decide) (fun h5 => ?_) (fun h5 => ?_)
    · replace hf := itb h5 hf
      exact j_sub [0, 1, 2, 3] _ rfl (hK0 u hf)
    · replace hf := ieb h5 hf
      refine j_aload_n dX0_end_41 0 rfl ?_
      obtain ⟨x1, hx1, hf⟩ := obb hf
      refine c_geta (ci := 0) (k := 24) hx1 zcl_0 (Nat.le_of_ble_eq_true rfl) zf_X0_146 fk_24 dX0_end_42 ?_
      refine j_bipush dX0_end_45 (by decide) ?_
      refine j_iload_n dX0_end_47 3 rfl ?_
      refine j_imul dX0_end_48 ?_
      refine j_iload dX0_end_49 4 rfl ?_
      refine j_iadd dX0_end_51 ?_
      refine j_aload_n dX0_end_52 0 rfl ?_
      refine j_iload_n dX0_end_53 3 rfl ?_
      refine j_iload dX0_end_54 4 rfl ?_
      obtain ⟨b2, hb2, hf⟩ := obb hf
      obtain ⟨eb2, tb2⟩ := ztg_s hb2
      obtain ⟨q3, hq3, hf⟩ := obb hf
      refine a_Vr [pI v3, pI v4] [pI ((10 * v3) + v4), pR x1] (t0_gridAt (some b2) v3 v4 u hq3) ⟨q1746, q1748, qs50, q128, q1749⟩ dv0_gridAt rfl ⟨(Nat.le_of_ble_eq_true rfl), (Nat.le_of_ble_eq_true rfl)⟩ (c_recv zcl_0 tb2) (by rw [← eb2]; rfl) (Nat.le_of_ble_eq_true rfl) dX0_end_56 ⟨Nat.le_refl 0, Nat.le_refl 0⟩ ?_
      obtain ⟨u4, hu4, hf⟩ := obb hf
      refine c_last hu4 dX0_end_59 ?_
      refine j_iinc dX0_end_60 4 rfl [(4, pI (v4 + 1)), (0, pR v0), (1, pI v1), (2, pI v2), (3, pI v3)] (Nat.le_of_ble_eq_true rfl) rfl ?_
      refine j_goto 33 dX0_end_63 (by decide) ?_
      exact j_sub [1, 2, 3, 4, 0] _ rfl (ih (v4 + 1) u4 hf)
theorem t0_end_l25 {G : CG} {A : Nat → Prop} {l : Launch} {a : List PV} {r : Int × Sg} {Kf : Sg → Option (Int × Sg)} (v0 : Option Nat) (v1 : Int) (v2 : Int) (hK0 : ∀ q : Sg, Kf q = some r → JW kC (bC G A) A l D0_end a (jQ (bC G A) A a (some (pL r.1)) r.2 0 0) 0 0 q 0 0 72 [(0, pR v0), (1, pI v1), (2, pI v2)] []) : ∀ (n : Nat) (v3 : Int) (u : Sg), ((f0_end_l25 G v0 v1 v2 n v3 u).bind Kf = some r) → JW kC (bC G A) A l D0_end a (jQ (bC G A) A a (some (pL r.1)) r.2 0 0) 0 0 u 0 0 25 [(0, pR v0), (1, pI v1), (2, pI v2), (3, pI v3)] [] := by
  intro n
  induction n with
  | zero => intro v3 u hf; exact onb hf
  | succ n ih =>
    intro v3 u hf
    unfold f0_end_l25 at hf
    refine j_iload_n dX0_end_25 3 rfl ?_
    refine j_iload_n dX0_end_26 2 rfl ?_
    refine j_icmp_gt (w32 v3) (w32 v2) rfl rfl 72 dX0_end_27 (by decide) (fun h2 => ?_) (fun h2 => ?_)
    · replace hf := itb h2 hf
      exact j_sub [0, 1, 2] _ rfl (hK0 u hf)
    · replace hf := ieb h2 hf
      refine j_iconst dX0_end_30 ?_
      refine j_istore dX0_end_31 [(4, pI 0), (0, pR v0), (1, pI v1), (2, pI v2), (3, pI v3)] (Nat.le_of_ble_eq_true rfl) rfl ?_
      replace hf := oba hf
      refine j_sub [1, 2, 3, 4, 0] _ rfl (t0_end_l33 v0 v1 v2 v3 ?_ NN 0 u hf)
      · intro q1 hf
        refine j_iinc dX0_end_66 3 rfl [(3, pI (v3 + 1)), (0, pR v0), (1, pI v1), (2, pI v2)] (Nat.le_of_ble_eq_true rfl) rfl ?_
        refine j_goto 25 dX0_end_69 (by decide) ?_
        exact j_sub [1, 2, 3, 0] _ rfl (ih (v3 + 1) q1 hf)
theorem t0_end_l106 {G : CG} {A : Nat → Prop} {l : Launch} {a : List PV} {r : Int × Sg} {Kf : Int × Int → Option (Int × Sg)} (v0 : Option Nat) (v2 : Int) (v3 : Int) (v5 : Int) (u : Sg) (hK0 : ∀ q : Int × Int, Kf q = some r → JW kC (bC G A) A l D0_end a (jQ (bC G A) A a (some (pL r.1)) r.2 0 0) 0 0 u 0 0 161 [(0, pR v0), (2, pI v2), (3, pL v3), (5, pI v5), (6, pL q.1), (8, pL q.2)] []) : ∀ (n : Nat) (v6 : Int) (v8 : Int) (v10 : Int), ((f0_end_l106 G v0 v2 v3 v5 u n v6 v8 v10).bind Kf = some r) → JW kC (bC G A) A l D0_end a (jQ (bC G A) A a (some (pL r.1)) r.2 0 0) 0 0 u 0 0 106 [(0, pR v0), (2, pI v2), (3, pL v3), (5, pI v5), (6, pL v6), (8, pL v8), (10, pI v10)] [] := by
  intro n
  induction n with
  | zero => intro v6 v8 v10 hf; exact onb hf
  | succ n ih =>
    intro v6 v8 v10 hf
    unfold f0_end_l106 at hf
    refine j_iload dX0_end_106 6 rfl ?_
    refine j_iload_n dX0_end_108 1 rfl ?_
    refine j_iload dX0_end_109 3 rfl ?_
    refine j_isub dX0_end_111 ?_
    refine j_iconst dX0_end_112 ?_
    refine j_isub dX0_end_113 ?_
    refine j_icmp_gt (w32 v10) (w32 ((v2 - v5) - 1)) rfl rfl 161 dX0_end_114 (by decide) (fun h5 => ?_) (fun h5 => ?_)
    · replace hf := itb h5 hf
      exact j_sub [0, 1, 2, 3, 4, 5] _ rfl (hK0 (v6, v8) hf)
    · replace hf := ieb h5 hf
      refine j_lload dX0_end_117 4 rfl ?_
      refine j_aload_n dX0_end_119 0 rfl ?_
      obtain ⟨x1, hx1, hf⟩ := obb hf
      refine c_geta (ci := 0) (k := 24) hx1 zcl_0 (Nat.le_of_ble_eq_true rfl) zf_X0_146 fk_24 dX0_end_120 ?_
      refine j_bipush dX0_end_123 (by decide) ?_
      refine j_iload dX0_end_125 6 rfl ?_
      refine j_imul dX0_end_127 ?_
      refine j_iload dX0_end_128 3 rfl ?_
      refine j_iadd dX0_end_130 ?_
      refine j_iconst dX0_end_131 ?_
      refine j_iadd dX0_end_132 ?_
      obtain ⟨x2, hx2, hf⟩ := obb hf
      refine c_lald hx2 dX0_end_133 ?_
      refine j_ladd dX0_end_134 ?_
      refine j_lstore dX0_end_135 [(6, pL (v6 + x2)), (0, pR v0), (2, pI v2), (3, pL v3), (5, pI v5), (8, pL v8), (10, pI v10)] (Nat.le_of_ble_eq_true rfl) rfl ?_
      refine j_lload dX0_end_137 5 rfl ?_
      refine j_aload_n dX0_end_139 1 rfl ?_
      obtain ⟨x3, hx3, hf⟩ := obb hf
      refine c_geta (ci := 0) (k := 24) hx3 zcl_0 (Nat.le_of_ble_eq_true rfl) zf_X0_146 fk_24 dX0_end_140 ?_
      refine j_bipush dX0_end_143 (by decide) ?_
      refine j_iload dX0_end_145 6 rfl ?_
      refine j_imul dX0_end_147 ?_
      refine j_iload dX0_end_148 4 rfl ?_
      refine j_iadd dX0_end_150 ?_
      obtain ⟨x4, hx4, hf⟩ := obb hf
      refine c_lald hx4 dX0_end_151 ?_
      refine j_ladd dX0_end_152 ?_
      refine j_lstore dX0_end_153 [(8, pL (v8 + x4)), (6, pL (v6 + x2)), (0, pR v0), (2, pI v2), (3, pL v3), (5, pI v5), (10, pI v10)] (Nat.le_of_ble_eq_true rfl) rfl ?_
      refine j_iinc dX0_end_155 6 rfl [(10, pI (v10 + 1)), (8, pL (v8 + x4)), (6, pL (v6 + x2)), (0, pR v0), (2, pI v2), (3, pL v3), (5, pI v5)] (Nat.le_of_ble_eq_true rfl) rfl ?_
      refine j_goto 106 dX0_end_158 (by decide) ?_
      exact j_sub [3, 4, 5, 6, 2, 1, 0] _ rfl (ih (v6 + x2) (v8 + x4) (v10 + 1) hf)
theorem t0_end_l91 {G : CG} {A : Nat → Prop} {l : Launch} {a : List PV} {r : Int × Sg} {Kf : Int → Option (Int × Sg)} (v0 : Option Nat) (v2 : Int) (u : Sg) (hK0 : ∀ q : Int, Kf q = some r → JW kC (bC G A) A l D0_end a (jQ (bC G A) A a (some (pL r.1)) r.2 0 0) 0 0 u 0 0 192 [(3, pL q)] []) : ∀ (n : Nat) (v3 : Int) (v5 : Int), ((f0_end_l91 G v0 v2 u n v3 v5).bind Kf = some r) → JW kC (bC G A) A l D0_end a (jQ (bC G A) A a (some (pL r.1)) r.2 0 0) 0 0 u 0 0 91 [(0, pR v0), (2, pI v2), (3, pL v3), (5, pI v5)] [] := by
  intro n
  induction n with
  | zero => intro v3 v5 hf; exact onb hf
  | succ n ih =>
    intro v3 v5 hf
    unfold f0_end_l91 at hf
    refine j_iload dX0_end_91 3 rfl ?_
    refine j_iload_n dX0_end_93 1 rfl ?_
    refine j_icmp_ge (w32 v5) (w32 v2) rfl rfl 192 dX0_end_94 (by decide) (fun h4 => ?_) (fun h4 => ?_)
    · replace hf := itb h4 hf
      exact j_sub [2] _ rfl (hK0 v3 hf)
    · replace hf := ieb h4 hf
      refine j_lconst (z := 0) dX0_end_97 rfl ?_
      refine j_lstore dX0_end_98 [(6, pL 0), (0, pR v0), (2, pI v2), (3, pL v3), (5, pI v5)] (Nat.le_of_ble_eq_true rfl) rfl ?_
      refine j_lconst (z := 0) dX0_end_100 rfl ?_
      refine j_lstore dX0_end_101 [(8, pL 0), (6, pL 0), (0, pR v0), (2, pI v2), (3, pL v3), (5, pI v5)] (Nat.le_of_ble_eq_true rfl) rfl ?_
      refine j_iconst dX0_end_103 ?_
      refine j_istore dX0_end_104 [(10, pI 0), (8, pL 0), (6, pL 0), (0, pR v0), (2, pI v2), (3, pL v3), (5, pI v5)] (Nat.le_of_ble_eq_true rfl) rfl ?_
      replace hf := oba hf
      refine j_sub [3, 4, 5, 6, 2, 1, 0] _ rfl (t0_end_l106 v0 v2 v3 v5 u ?_ NN 0 0 0 hf)
      · intro q1 hf
        refine j_lload dX0_end_161 5 rfl ?_
        refine j_lconst (z := 0) dX0_end_163 rfl ?_
        refine j_lc_ne 172 dX0_end_164 dX0_end_165 (by decide) (fun h3 => ?_) (fun h3 => ?_)
        · replace hf := ieb h3 hf
          refine j_lload_n dX0_end_172 2 rfl ?_
          refine j_lload dX0_end_173 4 rfl ?_
          refine j_lmul dX0_end_175 ?_
          refine j_lload dX0_end_176 5 rfl ?_
          rcases Decidable.em (w64 q1.2 = 0) with h2 | h2
          · exact onb (itb h2 hf)
          · replace hf := ieb h2 hf
            refine j_ldiv dX0_end_178 h2 ?_
            refine j_ldc2 (z := 2000000000) q1754 (by decide) dX0_end_179 ?_
            refine j_mmin_long q1705 q1185 q137 q1186 (Nat.le_of_ble_eq_true rfl) (Nat.le_of_ble_eq_true rfl) (Nat.le_of_ble_eq_true rfl) ⟨Nat.le_refl 0, Nat.le_refl 0⟩ dX0_end_182 ?_
            refine j_lstore_n dX0_end_185 [(3, pL (mn64 (div64 (v3 * q1.1) q1.2) 2000000000)), (0, pR v0), (2, pI v2), (5, pI v5), (6, pL q1.1), (8, pL q1.2)] (Nat.le_of_ble_eq_true rfl) rfl ?_
            refine j_iinc dX0_end_186 3 rfl [(5, pI (v5 + 1)), (3, pL (mn64 (div64 (v3 * q1.1) q1.2) 2000000000)), (0, pR v0), (2, pI v2), (6, pL q1.1), (8, pL q1.2)] (Nat.le_of_ble_eq_true rfl) rfl ?_
            refine j_goto 91 dX0_end_189 (by decide) ?_
            exact j_sub [2, 3, 1, 0] _ rfl (ih (mn64 (div64 (v3 * q1.1) q1.2) 2000000000) (v5 + 1) hf)
        · replace hf := itb h3 hf
          refine j_lload_n dX0_end_168 2 rfl ?_
          refine j_goto 185 dX0_end_169 (by decide) ?_
          refine j_lstore_n dX0_end_185 [(3, pL v3), (0, pR v0), (2, pI v2), (5, pI v5), (6, pL q1.1), (8, pL q1.2)] (Nat.le_of_ble_eq_true rfl) rfl ?_
          refine j_iinc dX0_end_186 3 rfl [(5, pI (v5 + 1)), (3, pL v3), (0, pR v0), (2, pI v2), (6, pL q1.1), (8, pL q1.2)] (Nat.le_of_ble_eq_true rfl) rfl ?_
          refine j_goto 91 dX0_end_189 (by decide) ?_
          exact j_sub [2, 3, 1, 0] _ rfl (ih v3 (v5 + 1) hf)
theorem t0_end {G : CG} {A : Nat → Prop} {l : Launch} {r : Int × Sg} (v0 : Option Nat) (v1 : Int) (v2 : Int) (u : Sg) (hf : f0_end G v0 v1 v2 u = some r) : JM kC (bC G A) A l yX0_end D0_end [pR v0, pI v1, pI v2] u (some (pL r.1)) r.2 0 0 := by
  refine j_met (lv0 := [(0, pR v0), (1, pI v1), (2, pI v2)]) ⟨pl_X0, rfl, rfl, (Nat.le_of_ble_eq_true rfl), rfl⟩ ?_
  unfold f0_end at hf
  refine j_iload_n dX0_end_0 2 rfl ?_
  refine j_if_lt (w32 v2) rfl 19 dX0_end_1 (by decide) (fun h8 => ?_) (fun h8 => ?_)
  · replace hf := it h8 hf
    refine j_ldc2 (z := (-2)) q1711 (by decide) dX0_end_19 ?_
    replace hf := Option.some.inj hf
    subst hf
    exact j_lreturn (bC_mv G A) ⟨Nat.le_refl 0, Nat.le_refl 0⟩ rfl dX0_end_22
  · replace hf := ie h8 hf
    refine j_iload_n dX0_end_4 2 rfl ?_
    refine j_bipush dX0_end_5 (by decide) ?_
    refine j_icmp_gt (w32 v2) 9 rfl rfl 19 dX0_end_7 (by decide) (fun h7 => ?_) (fun h7 => ?_)
    · replace hf := it h7 hf
      refine j_ldc2 (z := (-2)) q1711 (by decide) dX0_end_19 ?_
      replace hf := Option.some.inj hf
      subst hf
      exact j_lreturn (bC_mv G A) ⟨Nat.le_refl 0, Nat.le_refl 0⟩ rfl dX0_end_22
    · replace hf := ie h7 hf
      refine j_iload_n dX0_end_10 1 rfl ?_
      refine j_if_lt (w32 v1) rfl 19 dX0_end_11 (by decide) (fun h6 => ?_) (fun h6 => ?_)
      · replace hf := it h6 hf
        refine j_ldc2 (z := (-2)) q1711 (by decide) dX0_end_19 ?_
        replace hf := Option.some.inj hf
        subst hf
        exact j_lreturn (bC_mv G A) ⟨Nat.le_refl 0, Nat.le_refl 0⟩ rfl dX0_end_22
      · replace hf := ie h6 hf
        refine j_iload_n dX0_end_14 1 rfl ?_
        refine j_iload_n dX0_end_15 2 rfl ?_
        refine j_icmp_le (w32 v1) (w32 v2) rfl rfl 23 dX0_end_16 (by decide) (fun h5 => ?_) (fun h5 => ?_)
        · replace hf := it h5 hf
          refine j_iconst dX0_end_23 ?_
          refine j_istore_n dX0_end_24 [(3, pI 0), (0, pR v0), (1, pI v1), (2, pI v2)] (Nat.le_of_ble_eq_true rfl) rfl ?_
          refine j_sub [1, 2, 3, 0] _ rfl (t0_end_l25 v0 v1 v2 ?_ NN 0 u hf)
          · intro q1 hf
            refine j_aload_n dX0_end_72 0 rfl ?_
            obtain ⟨x2, hx2, hf⟩ := ob hf
            refine c_geta (ci := 0) (k := 24) hx2 zcl_0 (Nat.le_of_ble_eq_true rfl) zf_X0_146 fk_24 dX0_end_73 ?_
            refine j_bipush dX0_end_76 (by decide) ?_
            refine j_iload_n dX0_end_78 1 rfl ?_
            refine j_imul dX0_end_79 ?_
            refine j_iload_n dX0_end_80 2 rfl ?_
            refine j_iadd dX0_end_81 ?_
            refine j_iload_n dX0_end_82 1 rfl ?_
            refine j_isub dX0_end_83 ?_
            obtain ⟨x3, hx3, hf⟩ := ob hf
            refine c_lald hx3 dX0_end_84 ?_
            refine j_lstore_n dX0_end_85 [(3, pL x3), (0, pR v0), (1, pI v1), (2, pI v2)] (Nat.le_of_ble_eq_true rfl) rfl ?_
            refine j_iload_n dX0_end_86 3 rfl ?_
            refine j_iload_n dX0_end_87 2 rfl ?_
            refine j_isub dX0_end_88 ?_
            refine j_istore dX0_end_89 [(5, pI (v2 - v1)), (3, pL x3), (0, pR v0), (1, pI v1), (2, pI v2)] (Nat.le_of_ble_eq_true rfl) rfl ?_
            refine j_sub [2, 4, 1, 0] _ rfl (t0_end_l91 v0 v2 q1 ?_ NN x3 (v2 - v1) hf)
            · intro q4 hf
              refine j_lload_n dX0_end_192 0 rfl ?_
              replace hf := Option.some.inj hf
              subst hf
              exact j_lreturn (bC_mv G A) ⟨Nat.le_refl 0, Nat.le_refl 0⟩ rfl dX0_end_193
        · replace hf := ie h5 hf
          refine j_ldc2 (z := (-2)) q1711 (by decide) dX0_end_19 ?_
          replace hf := Option.some.inj hf
          subst hf
          exact j_lreturn (bC_mv G A) ⟨Nat.le_refl 0, Nat.le_refl 0⟩ rfl dX0_end_22
theorem t0_size {G : CG} {A : Nat → Prop} {l : Launch} {r : Int × Sg} (v0 : Option Nat) (v1 : Int) (v2 : Int) (u : Sg) (hf : f0_size G v0 v1 v2 u = some r) : JM kC (bC G A) A l yX0_size D0_size [pR v0, pI v1, pI v2] u (some (pI r.1)) r.2 0 0 := by
  refine j_met (lv0 := [(0, pR v0), (1, pI v1), (2, pI v2)]) ⟨pl_X0, rfl, rfl, (Nat.le_of_ble_eq_true rfl), rfl⟩ ?_
  unfold f0_size at hf
  refine j_iload_n dX0_size_0 1 rfl ?_
  refine j_if_lt (w32 v1) rfl 21 dX0_size_1 (by decide) (fun h13 => ?_) (fun h13 => ?_)
  · replace hf := it h13 hf
    refine j_bipush dX0_size_21 (by decide) ?_
    replace hf := Option.some.inj hf
    subst hf
    exact j_ireturn (bC_mv G A) ⟨Nat.le_refl 0, Nat.le_refl 0⟩ rfl dX0_size_23
  · replace hf := ie h13 hf
    refine j_iload_n dX0_size_4 1 rfl ?_
    refine j_sipush dX0_size_5 (by decide) ?_
    refine j_icmp_gt (w32 v1) 400 rfl rfl 21 dX0_size_8 (by decide) (fun h12 => ?_) (fun h12 => ?_)
    · replace hf := it h12 hf
      refine j_bipush dX0_size_21 (by decide) ?_
      replace hf := Option.some.inj hf
      subst hf
      exact j_ireturn (bC_mv G A) ⟨Nat.le_refl 0, Nat.le_refl 0⟩ rfl dX0_size_23
    · replace hf := ie h12 hf
      refine j_iload_n dX0_size_11 2 rfl ?_
      refine j_if_lt (w32 v2) rfl 21 dX0_size_12 (by decide) (fun h11 => ?_) (fun h11 => ?_)
      · replace hf := it h11 hf
        refine j_bipush dX0_size_21 (by decide) ?_
        replace hf := Option.some.inj hf
        subst hf
        exact j_ireturn (bC_mv G A) ⟨Nat.le_refl 0, Nat.le_refl 0⟩ rfl dX0_size_23
      · replace hf := ie h11 hf
        refine j_iload_n dX0_size_15 2 rfl ?_
        refine j_bipush dX0_size_16 (by decide) ?_
        refine j_icmp_le (w32 v2) 100 rfl rfl 24 dX0_size_18 (by decide) (fun h10 => ?_) (fun h10 => ?_)
        · replace hf := it h10 hf
          refine j_aload_n dX0_size_24 0 rfl ?_
          obtain ⟨x1, hx1, hf⟩ := ob hf
          refine c_geta (ci := 0) (k := 25) hx1 zcl_0 (Nat.le_of_ble_eq_true rfl) zf_X0_149 fk_25 dX0_size_25 ?_
          refine j_iload_n dX0_size_28 1 rfl ?_
          obtain ⟨x2, hx2, hf⟩ := ob hf
          refine c_iald hx2 dX0_size_29 ?_
          refine j_istore_n dX0_size_30 [(3, pI x2), (0, pR v0), (1, pI v1), (2, pI v2)] (Nat.le_of_ble_eq_true rfl) rfl ?_
          refine j_aload_n dX0_size_31 1 rfl ?_
          obtain ⟨x3, hx3, hf⟩ := ob hf
          refine c_geti (ci := 0) (k := 26) hx3 zcl_0 (Nat.le_of_ble_eq_true rfl) zf_X0_519 fk_26 dX0_size_32 ?_
          refine j_iload_n dX0_size_35 0 rfl ?_
          refine j_isub dX0_size_36 ?_
          refine j_iload_n dX0_size_37 3 rfl ?_
          refine j_iadd dX0_size_38 ?_
          refine j_sipush dX0_size_39 (by decide) ?_
          refine j_icmp_le (w32 ((x3 - x2) + v2)) 200 rfl rfl 48 dX0_size_42 (by decide) (fun h9 => ?_) (fun h9 => ?_)
          · replace hf := it h9 hf
            refine j_aload_n dX0_size_48 1 rfl ?_
            obtain ⟨x4, hx4, hf⟩ := ob hf
            refine c_geta (ci := 0) (k := 25) hx4 zcl_0 (Nat.le_of_ble_eq_true rfl) zf_X0_149 fk_25 dX0_size_49 ?_
            refine j_iload_n dX0_size_52 2 rfl ?_
            refine j_iload_n dX0_size_53 3 rfl ?_
            obtain ⟨u5, hu5, hf⟩ := ob hf
            refine c_iast hu5 dX0_size_54 ?_
            refine j_aload_n dX0_size_55 1 rfl ?_
            refine j_dup dX0_size_56 rfl ?_
            obtain ⟨x6, hx6, hf⟩ := ob hf
            refine c_geti (ci := 0) (k := 26) hx6 zcl_0 (Nat.le_of_ble_eq_true rfl) zf_X0_519 fk_26 dX0_size_57 ?_
            refine j_iload_n dX0_size_60 3 rfl ?_
            refine j_iload_n dX0_size_61 0 rfl ?_
            refine j_isub dX0_size_62 ?_
            refine j_iadd dX0_size_63 ?_
            obtain ⟨u7, hu7, hf⟩ := ob hf
            refine c_puti (ci := 0) (k := 26) hu7 zcl_0 (Nat.le_of_ble_eq_true rfl) zf_X0_519 fk_26 rfl fits_I dX0_size_64 ?_
            refine j_aload_n dX0_size_67 1 rfl ?_
            refine j_iconst dX0_size_68 ?_
            obtain ⟨u8, hu8, hf⟩ := ob hf
            refine c_puti (ci := 0) (k := 31) hu8 zcl_0 (Nat.le_of_ble_eq_true rfl) zf_X0_522 fk_31 rfl (fits_Z (Or.inl rfl)) dX0_size_69 ?_
            refine j_iload_n dX0_size_72 0 rfl ?_
            replace hf := Option.some.inj hf
            subst hf
            exact j_ireturn (bC_mv G A) ⟨Nat.le_refl 0, Nat.le_refl 0⟩ rfl dX0_size_73
          · replace hf := ie h9 hf
            refine j_bipush dX0_size_45 (by decide) ?_
            replace hf := Option.some.inj hf
            subst hf
            exact j_ireturn (bC_mv G A) ⟨Nat.le_refl 0, Nat.le_refl 0⟩ rfl dX0_size_47
        · replace hf := ie h10 hf
          refine j_bipush dX0_size_21 (by decide) ?_
          replace hf := Option.some.inj hf
          subst hf
          exact j_ireturn (bC_mv G A) ⟨Nat.le_refl 0, Nat.le_refl 0⟩ rfl dX0_size_23
theorem t0_count {G : CG} {A : Nat → Prop} {l : Launch} {r : Int × Sg} (v0 : Option Nat) (v1 : Int) (v2 : Int) (u : Sg) (hf : f0_count G v0 v1 v2 u = some r) : JM kC (bC G A) A l yX0_count D0_count [pR v0, pI v1, pI v2] u (some (pI r.1)) r.2 0 0 := by
  refine j_met (lv0 := [(0, pR v0), (1, pI v1), (2, pI v2)]) ⟨pl_X0, rfl, rfl, (Nat.le_of_ble_eq_true rfl), rfl⟩ ?_
  unfold f0_count at hf
  refine j_iload_n dX0_count_0 1 rfl ?_
  refine j_if_lt (w32 v1) rfl 20 dX0_count_1 (by decide) (fun h9 => ?_) (fun h9 => ?_)
  · replace hf := it h9 hf
    refine j_bipush dX0_count_20 (by decide) ?_
    replace hf := Option.some.inj hf
    subst hf
    exact j_ireturn (bC_mv G A) ⟨Nat.le_refl 0, Nat.le_refl 0⟩ rfl dX0_count_22
  · replace hf := ie h9 hf
    refine j_iload_n dX0_count_4 1 rfl ?_
    refine j_iconst dX0_count_5 ?_
    refine j_icmp_gt (w32 v1) 4 rfl rfl 20 dX0_count_6 (by decide) (fun h8 => ?_) (fun h8 => ?_)
    · replace hf := it h8 hf
      refine j_bipush dX0_count_20 (by decide) ?_
      replace hf := Option.some.inj hf
      subst hf
      exact j_ireturn (bC_mv G A) ⟨Nat.le_refl 0, Nat.le_refl 0⟩ rfl dX0_count_22
    · replace hf := ie h8 hf
      refine j_iload_n dX0_count_9 2 rfl ?_
      refine j_if_lt (w32 v2) rfl 20 dX0_count_10 (by decide) (fun h7 => ?_) (fun h7 => ?_)
      · replace hf := it h7 hf
        refine j_bipush dX0_count_20 (by decide) ?_
        replace hf := Option.some.inj hf
        subst hf
        exact j_ireturn (bC_mv G A) ⟨Nat.le_refl 0, Nat.le_refl 0⟩ rfl dX0_count_22
      · replace hf := ie h7 hf
        refine j_iload_n dX0_count_13 2 rfl ?_
        refine j_sipush dX0_count_14 (by decide) ?_
        refine j_icmp_le (w32 v2) 200 rfl rfl 23 dX0_count_17 (by decide) (fun h6 => ?_) (fun h6 => ?_)
        · replace hf := it h6 hf
          refine j_aload_n dX0_count_23 0 rfl ?_
          obtain ⟨x1, hx1, hf⟩ := ob hf
          refine c_geta (ci := 0) (k := 27) hx1 zcl_0 (Nat.le_of_ble_eq_true rfl) zf_X0_152 fk_27 dX0_count_24 ?_
          refine j_iload_n dX0_count_27 1 rfl ?_
          obtain ⟨x2, hx2, hf⟩ := ob hf
          refine c_iald hx2 dX0_count_28 ?_
          refine j_istore_n dX0_count_29 [(3, pI x2), (0, pR v0), (1, pI v1), (2, pI v2)] (Nat.le_of_ble_eq_true rfl) rfl ?_
          refine j_aload_n dX0_count_30 1 rfl ?_
          obtain ⟨x3, hx3, hf⟩ := ob hf
          refine c_geta (ci := 0) (k := 27) hx3 zcl_0 (Nat.le_of_ble_eq_true rfl) zf_X0_152 fk_27 dX0_count_31 ?_
          refine j_iload_n dX0_count_34 2 rfl ?_
          refine j_iload_n dX0_count_35 3 rfl ?_
          obtain ⟨u4, hu4, hf⟩ := ob hf
          refine c_iast hu4 dX0_count_36 ?_
          refine j_aload_n dX0_count_37 1 rfl ?_
          refine j_iconst dX0_count_38 ?_
          obtain ⟨u5, hu5, hf⟩ := ob hf
          refine c_puti (ci := 0) (k := 31) hu5 zcl_0 (Nat.le_of_ble_eq_true rfl) zf_X0_522 fk_31 rfl (fits_Z (Or.inl rfl)) dX0_count_39 ?_
          refine j_iload_n dX0_count_42 0 rfl ?_
          replace hf := Option.some.inj hf
          subst hf
          exact j_ireturn (bC_mv G A) ⟨Nat.le_refl 0, Nat.le_refl 0⟩ rfl dX0_count_43
        · replace hf := ie h6 hf
          refine j_bipush dX0_count_20 (by decide) ?_
          replace hf := Option.some.inj hf
          subst hf
          exact j_ireturn (bC_mv G A) ⟨Nat.le_refl 0, Nat.le_refl 0⟩ rfl dX0_count_22
theorem t0_fold_l2 {G : CG} {A : Nat → Prop} {l : Launch} {a : List PV} {r : Sg} {Kf : Sg → Option (Sg)} (v0 : Option Nat) (hK0 : ∀ q : Sg, Kf q = some r → JW kC (bC G A) A l D0_fold a (jQ (bC G A) A a none r 0 0) 0 0 q 0 0 22 [(0, pR v0)] []) : ∀ (n : Nat) (v1 : Int) (u : Sg), ((f0_fold_l2 G v0 n v1 u).bind Kf = some r) → JW kC (bC G A) A l D0_fold a (jQ (bC G A) A a none r 0 0) 0 0 u 0 0 2 [(0, pR v0), (1, pI v1)] [] := by
  intro n
  induction n with
  | zero => intro v1 u hf; exact onb hf
  | succ n ih =>
    intro v1 u hf
    unfold f0_fold_l2 at hf
    refine j_iload_n dX0_fold_2 1 rfl ?_
    refine j_sipush dX0_fold_3 (by decide) ?_
    refine j_icmp_gt (w32 v1) 1600 rfl rfl 22 dX0_fold_6 (by decide) (fun h3 => ?_) (fun h3 => ?_)
    · replace hf := itb h3 hf
      exact j_sub [0] _ rfl (hK0 u hf)
    · replace hf := ieb h3 hf
      refine j_aload_n dX0_fold_9 0 rfl ?_
      obtain ⟨x1, hx1, hf⟩ := obb hf
      refine c_geta (ci := 0) (k := 30) hx1 zcl_0 (Nat.le_of_ble_eq_true rfl) zf_X0_161 fk_30 dX0_fold_10 ?_
      refine j_iload_n dX0_fold_13 1 rfl ?_
      refine j_lconst (z := 0) dX0_fold_14 rfl ?_
      obtain ⟨u2, hu2, hf⟩ := obb hf
      refine c_last hu2 dX0_fold_15 ?_
      refine j_iinc dX0_fold_16 1 rfl [(1, pI (v1 + 1)), (0, pR v0)] (Nat.le_of_ble_eq_true rfl) rfl ?_
      refine j_goto 2 dX0_fold_19 (by decide) ?_
      exact j_sub [1, 0] _ rfl (ih (v1 + 1) u2 hf)
theorem t0_fold_l47 {G : CG} {A : Nat → Prop} {l : Launch} {a : List PV} {r : Sg} {Kf : Sg → Option (Sg)} (v0 : Option Nat) (v1 : Int) (hK0 : ∀ q : Sg, Kf q = some r → JW kC (bC G A) A l D0_fold a (jQ (bC G A) A a none r 0 0) 0 0 q 0 0 85 [(0, pR v0), (1, pI v1)] []) : ∀ (n : Nat) (v2 : Int) (u : Sg), ((f0_fold_l47 G v0 v1 n v2 u).bind Kf = some r) → JW kC (bC G A) A l D0_fold a (jQ (bC G A) A a none r 0 0) 0 0 u 0 0 47 [(0, pR v0), (1, pI v1), (2, pI v2)] [] := by
  intro n
  induction n with
  | zero => intro v2 u hf; exact onb hf
  | succ n ih =>
    intro v2 u hf
    unfold f0_fold_l47 at hf
    refine j_iload_n dX0_fold_47 2 rfl ?_
    refine j_sipush dX0_fold_48 (by decide) ?_
    refine j_icmp_gt (w32 v2) 400 rfl rfl 85 dX0_fold_51 (by decide) (fun h8 => ?_) (fun h8 => ?_)
    · replace hf := itb h8 hf
      exact j_sub [0, 1] _ rfl (hK0 u hf)
    · replace hf := ieb h8 hf
      refine j_aload_n dX0_fold_54 0 rfl ?_
      obtain ⟨x1, hx1, hf⟩ := obb hf
      refine c_geta (ci := 0) (k := 30) hx1 zcl_0 (Nat.le_of_ble_eq_true rfl) zf_X0_161 fk_30 dX0_fold_55 ?_
      refine j_iload_n dX0_fold_58 1 rfl ?_
      refine j_iload_n dX0_fold_59 2 rfl ?_
      refine j_iadd dX0_fold_60 ?_
      refine j_dup2_11 dX0_fold_61 rfl rfl ?_
      obtain ⟨x2, hx2, hf⟩ := obb hf
      refine c_lald hx2 dX0_fold_62 ?_
      refine j_aload_n dX0_fold_63 0 rfl ?_
      obtain ⟨x3, hx3, hf⟩ := obb hf
      refine c_geta (ci := 0) (k := 29) hx3 zcl_0 (Nat.le_of_ble_eq_true rfl) zf_X0_158 fk_29 dX0_fold_64 ?_
      refine j_iload_n dX0_fold_67 1 rfl ?_
      obtain ⟨x4, hx4, hf⟩ := obb hf
      refine c_lald hx4 dX0_fold_68 ?_
      refine j_aload_n dX0_fold_69 0 rfl ?_
      obtain ⟨x5, hx5, hf⟩ := obb hf
      refine c_geta (ci := 0) (k := 25) hx5 zcl_0 (Nat.le_of_ble_eq_true rfl) zf_X0_149 fk_25 dX0_fold_70 ?_
      refine j_iload_n dX0_fold_73 2 rfl ?_
      obtain ⟨x6, hx6, hf⟩ := obb hf
      refine c_iald hx6 dX0_fold_74 ?_
      refine j_i2l dX0_fold_75 ?_
      refine j_lmul dX0_fold_76 ?_
      refine j_ladd dX0_fold_77 ?_
      obtain ⟨u7, hu7, hf⟩ := obb hf
      refine c_last hu7 dX0_fold_78 ?_
      refine j_iinc dX0_fold_79 2 rfl [(2, pI (v2 + 1)), (0, pR v0), (1, pI v1)] (Nat.le_of_ble_eq_true rfl) rfl ?_
      refine j_goto 47 dX0_fold_82 (by decide) ?_
      exact j_sub [1, 2, 0] _ rfl (ih (v2 + 1) u7 hf)
theorem t0_fold_l24 {G : CG} {A : Nat → Prop} {l : Launch} {a : List PV} {r : Sg} {Kf : Sg → Option (Sg)} (v0 : Option Nat) (hK0 : ∀ q : Sg, Kf q = some r → JW kC (bC G A) A l D0_fold a (jQ (bC G A) A a none r 0 0) 0 0 q 0 0 91 [(0, pR v0)] []) : ∀ (n : Nat) (v1 : Int) (u : Sg), ((f0_fold_l24 G v0 n v1 u).bind Kf = some r) → JW kC (bC G A) A l D0_fold a (jQ (bC G A) A a none r 0 0) 0 0 u 0 0 24 [(0, pR v0), (1, pI v1)] [] := by
  intro n
  induction n with
  | zero => intro v1 u hf; exact onb hf
  | succ n ih =>
    intro v1 u hf
    unfold f0_fold_l24 at hf
    refine j_iload_n dX0_fold_24 1 rfl ?_
    refine j_sipush dX0_fold_25 (by decide) ?_
    refine j_icmp_gt (w32 v1) 1200 rfl rfl 91 dX0_fold_28 (by decide) (fun h5 => ?_) (fun h5 => ?_)
    · replace hf := itb h5 hf
      exact j_sub [0] _ rfl (hK0 u hf)
    · replace hf := ieb h5 hf
      refine j_aload_n dX0_fold_31 0 rfl ?_
      obtain ⟨x1, hx1, hf⟩ := obb hf
      refine c_geta (ci := 0) (k := 29) hx1 zcl_0 (Nat.le_of_ble_eq_true rfl) zf_X0_158 fk_29 dX0_fold_32 ?_
      refine j_iload_n dX0_fold_35 1 rfl ?_
      obtain ⟨x2, hx2, hf⟩ := obb hf
      refine c_lald hx2 dX0_fold_36 ?_
      refine j_lconst (z := 0) dX0_fold_37 rfl ?_
      refine j_lc_ne 45 dX0_fold_38 dX0_fold_39 (by decide) (fun h4 => ?_) (fun h4 => ?_)
      · replace hf := ieb h4 hf
        refine j_iconst dX0_fold_45 ?_
        refine j_istore_n dX0_fold_46 [(2, pI 0), (0, pR v0), (1, pI v1)] (Nat.le_of_ble_eq_true rfl) rfl ?_
        replace hf := oba hf
        refine j_sub [1, 2, 0] _ rfl (t0_fold_l47 v0 v1 ?_ NN 0 u hf)
        · intro q3 hf
          refine j_iinc dX0_fold_85 1 rfl [(1, pI (v1 + 1)), (0, pR v0)] (Nat.le_of_ble_eq_true rfl) rfl ?_
          refine j_goto 24 dX0_fold_88 (by decide) ?_
          exact j_sub [1, 0] _ rfl (ih (v1 + 1) q3 hf)
      · replace hf := itb h4 hf
        refine j_goto 85 dX0_fold_42 (by decide) ?_
        refine j_iinc dX0_fold_85 1 rfl [(1, pI (v1 + 1)), (0, pR v0)] (Nat.le_of_ble_eq_true rfl) rfl ?_
        refine j_goto 24 dX0_fold_88 (by decide) ?_
        exact j_sub [1, 0] _ rfl (ih (v1 + 1) u hf)
theorem t0_fold_l93 {G : CG} {A : Nat → Prop} {l : Launch} {a : List PV} {r : Sg} {Kf : Sg → Option (Sg)} (v0 : Option Nat) (hK0 : ∀ q : Sg, Kf q = some r → JW kC (bC G A) A l D0_fold a (jQ (bC G A) A a none r 0 0) 0 0 q 0 0 118 [] []) : ∀ (n : Nat) (v1 : Int) (u : Sg), ((f0_fold_l93 G v0 n v1 u).bind Kf = some r) → JW kC (bC G A) A l D0_fold a (jQ (bC G A) A a none r 0 0) 0 0 u 0 0 93 [(0, pR v0), (1, pI v1)] [] := by
  intro n
  induction n with
  | zero => intro v1 u hf; exact onb hf
  | succ n ih =>
    intro v1 u hf
    unfold f0_fold_l93 at hf
    refine j_iload_n dX0_fold_93 1 rfl ?_
    refine j_sipush dX0_fold_94 (by decide) ?_
    refine j_icmp_gt (w32 v1) 1600 rfl rfl 118 dX0_fold_97 (by decide) (fun h5 => ?_) (fun h5 => ?_)
    · replace hf := itb h5 hf
      exact j_sub [] _ rfl (hK0 u hf)
    · replace hf := ieb h5 hf
      refine j_aload_n dX0_fold_100 0 rfl ?_
      obtain ⟨x1, hx1, hf⟩ := obb hf
      refine c_geta (ci := 0) (k := 29) hx1 zcl_0 (Nat.le_of_ble_eq_true rfl) zf_X0_158 fk_29 dX0_fold_101 ?_
      refine j_iload_n dX0_fold_104 1 rfl ?_
      refine j_aload_n dX0_fold_105 0 rfl ?_
      obtain ⟨x2, hx2, hf⟩ := obb hf
      refine c_geta (ci := 0) (k := 30) hx2 zcl_0 (Nat.le_of_ble_eq_true rfl) zf_X0_161 fk_30 dX0_fold_106 ?_
      refine j_iload_n dX0_fold_109 1 rfl ?_
      obtain ⟨x3, hx3, hf⟩ := obb hf
      refine c_lald hx3 dX0_fold_110 ?_
      obtain ⟨u4, hu4, hf⟩ := obb hf
      refine c_last hu4 dX0_fold_111 ?_
      refine j_iinc dX0_fold_112 1 rfl [(1, pI (v1 + 1)), (0, pR v0)] (Nat.le_of_ble_eq_true rfl) rfl ?_
      refine j_goto 93 dX0_fold_115 (by decide) ?_
      exact j_sub [1, 0] _ rfl (ih (v1 + 1) u4 hf)
theorem t0_fold {G : CG} {A : Nat → Prop} {l : Launch} {r : Sg} (v0 : Option Nat) (u : Sg) (hf : f0_fold G v0 u = some r) : JM kC (bC G A) A l yX0_fold D0_fold [pR v0] u none r 0 0 := by
  refine j_met (lv0 := [(0, pR v0)]) ⟨pl_X0, rfl, rfl, (Nat.le_of_ble_eq_true rfl), rfl⟩ ?_
  unfold f0_fold at hf
  refine j_iconst dX0_fold_0 ?_
  refine j_istore_n dX0_fold_1 [(1, pI 0), (0, pR v0)] (Nat.le_of_ble_eq_true rfl) rfl ?_
  refine j_sub [1, 0] _ rfl (t0_fold_l2 v0 ?_ NN 0 u hf)
  · intro q1 hf
    refine j_iconst dX0_fold_22 ?_
    refine j_istore_n dX0_fold_23 [(1, pI 0), (0, pR v0)] (Nat.le_of_ble_eq_true rfl) rfl ?_
    refine j_sub [1, 0] _ rfl (t0_fold_l24 v0 ?_ NN 0 q1 hf)
    · intro q2 hf
      refine j_iconst dX0_fold_91 ?_
      refine j_istore_n dX0_fold_92 [(1, pI 0), (0, pR v0)] (Nat.le_of_ble_eq_true rfl) rfl ?_
      refine j_sub [1, 0] _ rfl (t0_fold_l93 v0 ?_ NN 0 q2 hf)
      · intro q3 hf
        replace hf := Option.some.inj hf
        subst hf
        exact j_return (bC_mv G A) ⟨Nat.le_refl 0, Nat.le_refl 0⟩ rfl dX0_fold_118
theorem t0_findMasses_l17 {G : CG} {A : Nat → Prop} {l : Launch} {a : List PV} {r : Sg} {Kf : Int → Option (Sg)} (v0 : Option Nat) (u : Sg) (hK0 : ∀ q : Int, Kf q = some r → JW kC (bC G A) A l D0_findMasses a (jQ (bC G A) A a none r 0 0) 0 0 u 0 0 36 [(0, pR v0), (1, pL q)] []) : ∀ (n : Nat) (v1 : Int) (v3 : Int), ((f0_findMasses_l17 G v0 u n v1 v3).bind Kf = some r) → JW kC (bC G A) A l D0_findMasses a (jQ (bC G A) A a none r 0 0) 0 0 u 0 0 17 [(0, pR v0), (1, pL v1), (3, pI v3)] [] := by
  intro n
  induction n with
  | zero => intro v1 v3 hf; exact onb hf
  | succ n ih =>
    intro v1 v3 hf
    unfold f0_findMasses_l17 at hf
    refine j_iload_n dX0_findMasses_17 2 rfl ?_
    refine j_iconst dX0_findMasses_18 ?_
    refine j_icmp_ge (w32 v3) 4 rfl rfl 36 dX0_findMasses_19 (by decide) (fun h2 => ?_) (fun h2 => ?_)
    · replace hf := itb h2 hf
      exact j_sub [0, 1] _ rfl (hK0 v1 hf)
    · replace hf := ieb h2 hf
      refine j_lload_n dX0_findMasses_22 1 rfl ?_
      refine j_aload_n dX0_findMasses_23 0 rfl ?_
      obtain ⟨x1, hx1, hf⟩ := obb hf
      refine c_geti (ci := 0) (k := 26) hx1 zcl_0 (Nat.le_of_ble_eq_true rfl) zf_X0_519 fk_26 dX0_findMasses_24 ?_
      refine j_i2l dX0_findMasses_27 ?_
      refine j_lmul dX0_findMasses_28 ?_
      refine j_lstore_n dX0_findMasses_29 [(1, pL (v1 * (w32 x1))), (0, pR v0), (3, pI v3)] (Nat.le_of_ble_eq_true rfl) rfl ?_
      refine j_iinc dX0_findMasses_30 2 rfl [(3, pI (v3 + 1)), (1, pL (v1 * (w32 x1))), (0, pR v0)] (Nat.le_of_ble_eq_true rfl) rfl ?_
      refine j_goto 17 dX0_findMasses_33 (by decide) ?_
      exact j_sub [2, 1, 0] _ rfl (ih (v1 * (w32 x1)) (v3 + 1) hf)
theorem t0_findMasses_l38 {G : CG} {A : Nat → Prop} {l : Launch} {a : List PV} {r : Sg} {Kf : Sg → Option (Sg)} (v0 : Option Nat) (v1 : Int) (hK0 : ∀ q : Sg, Kf q = some r → JW kC (bC G A) A l D0_findMasses a (jQ (bC G A) A a none r 0 0) 0 0 q 0 0 73 [(0, pR v0), (1, pL v1)] []) : ∀ (n : Nat) (v3 : Int) (u : Sg), ((f0_findMasses_l38 G v0 v1 n v3 u).bind Kf = some r) → JW kC (bC G A) A l D0_findMasses a (jQ (bC G A) A a none r 0 0) 0 0 u 0 0 38 [(0, pR v0), (1, pL v1), (3, pI v3)] [] := by
  intro n
  induction n with
  | zero => intro v3 u hf; exact onb hf
  | succ n ih =>
    intro v3 u hf
    unfold f0_findMasses_l38 at hf
    refine j_iload_n dX0_findMasses_38 2 rfl ?_
    refine j_sipush dX0_findMasses_39 (by decide) ?_
    refine j_icmp_gt (w32 v3) 1600 rfl rfl 73 dX0_findMasses_42 (by decide) (fun h7 => ?_) (fun h7 => ?_)
    · replace hf := itb h7 hf
      exact j_sub [0, 1] _ rfl (hK0 u hf)
    · replace hf := ieb h7 hf
      refine j_aload_n dX0_findMasses_45 0 rfl ?_
      obtain ⟨x1, hx1, hf⟩ := obb hf
      refine c_geta (ci := 0) (k := 28) hx1 zcl_0 (Nat.le_of_ble_eq_true rfl) zf_X0_155 fk_28 dX0_findMasses_46 ?_
      refine j_iload_n dX0_findMasses_49 2 rfl ?_
      refine j_lconst (z := 0) dX0_findMasses_50 rfl ?_
      obtain ⟨u2, hu2, hf⟩ := obb hf
      refine c_last hu2 dX0_findMasses_51 ?_
      refine j_aload_n dX0_findMasses_52 0 rfl ?_
      obtain ⟨x3, hx3, hf⟩ := obb hf
      refine c_geta (ci := 0) (k := 29) hx3 zcl_0 (Nat.le_of_ble_eq_true rfl) zf_X0_158 fk_29 dX0_findMasses_53 ?_
      refine j_iload_n dX0_findMasses_56 2 rfl ?_
      refine j_iload_n dX0_findMasses_57 2 rfl ?_
      refine j_if_ne (w32 v3) rfl 65 dX0_findMasses_58 (by decide) (fun h6 => ?_) (fun h6 => ?_)
      · replace hf := ieb h6 hf
        refine j_lconst (z := 0) dX0_findMasses_65 rfl ?_
        obtain ⟨u4, hu4, hf⟩ := obb hf
        refine c_last hu4 dX0_findMasses_66 ?_
        refine j_iinc dX0_findMasses_67 2 rfl [(3, pI (v3 + 1)), (0, pR v0), (1, pL v1)] (Nat.le_of_ble_eq_true rfl) rfl ?_
        refine j_goto 38 dX0_findMasses_70 (by decide) ?_
        exact j_sub [1, 2, 0] _ rfl (ih (v3 + 1) u4 hf)
      · replace hf := itb h6 hf
        refine j_lconst (z := 1) dX0_findMasses_61 rfl ?_
        refine j_goto 66 dX0_findMasses_62 (by decide) ?_
        obtain ⟨u5, hu5, hf⟩ := obb hf
        refine c_last hu5 dX0_findMasses_66 ?_
        refine j_iinc dX0_findMasses_67 2 rfl [(3, pI (v3 + 1)), (0, pR v0), (1, pL v1)] (Nat.le_of_ble_eq_true rfl) rfl ?_
        refine j_goto 38 dX0_findMasses_70 (by decide) ?_
        exact j_sub [1, 2, 0] _ rfl (ih (v3 + 1) u5 hf)
theorem t0_findMasses_l91 {G : CG} {A : Nat → Prop} {l : Launch} {a : List PV} {r : Sg} {Kf : Sg → Option (Sg)} (v0 : Option Nat) (v1 : Int) (v3 : Int) (hK0 : ∀ q : Sg, Kf q = some r → JW kC (bC G A) A l D0_findMasses a (jQ (bC G A) A a none r 0 0) 0 0 q 0 0 132 [(0, pR v0), (1, pL v1), (3, pI v3)] []) : ∀ (n : Nat) (v4 : Int) (u : Sg), ((f0_findMasses_l91 G v0 v1 v3 n v4 u).bind Kf = some r) → JW kC (bC G A) A l D0_findMasses a (jQ (bC G A) A a none r 0 0) 0 0 u 0 0 91 [(0, pR v0), (1, pL v1), (3, pI v3), (4, pI v4)] [] := by
  intro n
  induction n with
  | zero => intro v4 u hf; exact onb hf
  | succ n ih =>
    intro v4 u hf
    unfold f0_findMasses_l91 at hf
    refine j_iload dX0_findMasses_91 3 rfl ?_
    refine j_sipush dX0_findMasses_93 (by decide) ?_
    refine j_icmp_gt (w32 v4) 1600 rfl rfl 132 dX0_findMasses_96 (by decide) (fun h8 => ?_) (fun h8 => ?_)
    · replace hf := itb h8 hf
      exact j_sub [0, 1, 2] _ rfl (hK0 u hf)
    · replace hf := ieb h8 hf
      refine j_aload_n dX0_findMasses_99 0 rfl ?_
      obtain ⟨x1, hx1, hf⟩ := obb hf
      refine c_geta (ci := 0) (k := 28) hx1 zcl_0 (Nat.le_of_ble_eq_true rfl) zf_X0_155 fk_28 dX0_findMasses_100 ?_
      refine j_iload dX0_findMasses_103 3 rfl ?_
      refine j_dup2_11 dX0_findMasses_105 rfl rfl ?_
      obtain ⟨x2, hx2, hf⟩ := obb hf
      refine c_lald hx2 dX0_findMasses_106 ?_
      refine j_aload_n dX0_findMasses_107 0 rfl ?_
      obtain ⟨x3, hx3, hf⟩ := obb hf
      refine c_geta (ci := 0) (k := 27) hx3 zcl_0 (Nat.le_of_ble_eq_true rfl) zf_X0_152 fk_27 dX0_findMasses_108 ?_
      refine j_iload_n dX0_findMasses_111 2 rfl ?_
      obtain ⟨x4, hx4, hf⟩ := obb hf
      refine c_iald hx4 dX0_findMasses_112 ?_
      refine j_i2l dX0_findMasses_113 ?_
      refine j_lload_n dX0_findMasses_114 1 rfl ?_
      refine j_lmul dX0_findMasses_115 ?_
      refine j_aload_n dX0_findMasses_116 0 rfl ?_
      obtain ⟨x5, hx5, hf⟩ := obb hf
      refine c_geta (ci := 0) (k := 29) hx5 zcl_0 (Nat.le_of_ble_eq_true rfl) zf_X0_158 fk_29 dX0_findMasses_117 ?_
      refine j_iload dX0_findMasses_120 3 rfl ?_
      obtain ⟨x6, hx6, hf⟩ := obb hf
      refine c_lald hx6 dX0_findMasses_122 ?_
      refine j_lmul dX0_findMasses_123 ?_
      refine j_ladd dX0_findMasses_124 ?_
      obtain ⟨u7, hu7, hf⟩ := obb hf
      refine c_last hu7 dX0_findMasses_125 ?_
      refine j_iinc dX0_findMasses_126 3 rfl [(4, pI (v4 + 1)), (0, pR v0), (1, pL v1), (3, pI v3)] (Nat.le_of_ble_eq_true rfl) rfl ?_
      refine j_goto 91 dX0_findMasses_129 (by decide) ?_
      exact j_sub [1, 2, 3, 0] _ rfl (ih (v4 + 1) u7 hf)
theorem t0_findMasses_b88 {G : CG} {A : Nat → Prop} {l : Launch} {a : List PV} {r : Sg} {Kf : Sg → Option (Sg)} {v0 : Option Nat} (kh : Int → Int → Sg → Option (Sg)) (hkh : ∀ (z1 : Int) (z3 : Int) (zu : Sg), ((kh z1 z3 zu).bind Kf = some r) → JW kC (bC G A) A l D0_findMasses a (jQ (bC G A) A a none r 0 0) 0 0 zu 0 0 75 [(0, pR v0), (1, pL z1), (3, pI z3)] []) (hK0 : ∀ q : Sg, Kf q = some r → JW kC (bC G A) A l D0_findMasses a (jQ (bC G A) A a none r 0 0) 0 0 q 0 0 166 [] []) (v1 : Int) (v3 : Int) (u : Sg) (hf : (f0_findMasses_b88 G kh v0 v1 v3 u).bind Kf = some r) : JW kC (bC G A) A l D0_findMasses a (jQ (bC G A) A a none r 0 0) 0 0 u 0 0 88 [(0, pR v0), (1, pL v1), (3, pI v3)] [] := by
  unfold f0_findMasses_b88 at hf
  refine j_iconst dX0_findMasses_88 ?_
  refine j_istore dX0_findMasses_89 [(4, pI 0), (0, pR v0), (1, pL v1), (3, pI v3)] (Nat.le_of_ble_eq_true rfl) rfl ?_
  replace hf := oba hf
  refine j_sub [1, 2, 3, 0] _ rfl (t0_findMasses_l91 v0 v1 v3 ?_ NN 0 u hf)
  · intro q1 hf
    refine j_iload_n dX0_findMasses_132 2 rfl ?_
    refine j_iconst dX0_findMasses_133 ?_
    refine j_icmp_ne (w32 v3) 3 rfl rfl 141 dX0_findMasses_134 (by decide) (fun h6 => ?_) (fun h6 => ?_)
    · replace hf := ieb h6 hf
      refine j_aload_n dX0_findMasses_141 0 rfl ?_
      obtain ⟨x2, hx2, hf⟩ := obb hf
      refine c_geti (ci := 0) (k := 26) hx2 zcl_0 (Nat.le_of_ble_eq_true rfl) zf_X0_519 fk_26 dX0_findMasses_142 ?_
      refine j_if_ne (w32 x2) rfl 152 dX0_findMasses_145 (by decide) (fun h5 => ?_) (fun h5 => ?_)
      · replace hf := ieb h5 hf
        refine j_lload_n dX0_findMasses_152 1 rfl ?_
        refine j_aload_n dX0_findMasses_153 0 rfl ?_
        obtain ⟨x3, hx3, hf⟩ := obb hf
        refine c_geti (ci := 0) (k := 26) hx3 zcl_0 (Nat.le_of_ble_eq_true rfl) zf_X0_519 fk_26 dX0_findMasses_154 ?_
        refine j_i2l dX0_findMasses_157 ?_
        rcases Decidable.em (w64 (w32 x3) = 0) with h4 | h4
        · exact onb (itb h4 hf)
        · replace hf := ieb h4 hf
          refine j_ldiv dX0_findMasses_158 h4 ?_
          refine j_lstore_n dX0_findMasses_159 [(1, pL (div64 v1 (w32 x3))), (0, pR v0), (3, pI v3)] (Nat.le_of_ble_eq_true rfl) rfl ?_
          refine j_iinc dX0_findMasses_160 2 rfl [(3, pI (v3 + 1)), (1, pL (div64 v1 (w32 x3))), (0, pR v0)] (Nat.le_of_ble_eq_true rfl) rfl ?_
          refine j_goto 75 dX0_findMasses_163 (by decide) ?_
          exact j_sub [2, 1, 0] _ rfl (hkh (div64 v1 (w32 x3)) (v3 + 1) q1 hf)
      · replace hf := itb h5 hf
        refine j_lconst (z := 0) dX0_findMasses_148 rfl ?_
        refine j_goto 159 dX0_findMasses_149 (by decide) ?_
        refine j_lstore_n dX0_findMasses_159 [(1, pL 0), (0, pR v0), (3, pI v3)] (Nat.le_of_ble_eq_true rfl) rfl ?_
        refine j_iinc dX0_findMasses_160 2 rfl [(3, pI (v3 + 1)), (1, pL 0), (0, pR v0)] (Nat.le_of_ble_eq_true rfl) rfl ?_
        refine j_goto 75 dX0_findMasses_163 (by decide) ?_
        exact j_sub [2, 1, 0] _ rfl (hkh 0 (v3 + 1) q1 hf)
    · replace hf := itb h6 hf
      refine j_lconst (z := 1) dX0_findMasses_137 rfl ?_
      refine j_goto 159 dX0_findMasses_138 (by decide) ?_
      refine j_lstore_n dX0_findMasses_159 [(1, pL 1), (0, pR v0), (3, pI v3)] (Nat.le_of_ble_eq_true rfl) rfl ?_
      refine j_iinc dX0_findMasses_160 2 rfl [(3, pI (v3 + 1)), (1, pL 1), (0, pR v0)] (Nat.le_of_ble_eq_true rfl) rfl ?_
      refine j_goto 75 dX0_findMasses_163 (by decide) ?_
      exact j_sub [2, 1, 0] _ rfl (hkh 1 (v3 + 1) q1 hf)
theorem t0_findMasses_l75 {G : CG} {A : Nat → Prop} {l : Launch} {a : List PV} {r : Sg} {Kf : Sg → Option (Sg)} (v0 : Option Nat) (hK0 : ∀ q : Sg, Kf q = some r → JW kC (bC G A) A l D0_findMasses a (jQ (bC G A) A a none r 0 0) 0 0 q 0 0 166 [] []) : ∀ (n : Nat) (v1 : Int) (v3 : Int) (u : Sg), ((f0_findMasses_l75 G v0 n v1 v3 u).bind Kf = some r) → JW kC (bC G A) A l D0_findMasses a (jQ (bC G A) A a none r 0 0) 0 0 u 0 0 75 [(0, pR v0), (1, pL v1), (3, pI v3)] [] := by
  intro n
  induction n with
  | zero => intro v1 v3 u hf; exact onb hf
  | succ n ih =>
    intro v1 v3 u hf
    unfold f0_findMasses_l75 at hf
    refine j_iload_n dX0_findMasses_75 2 rfl ?_
    refine j_iconst dX0_findMasses_76 ?_
    refine j_icmp_gt (w32 v3) 4 rfl rfl 166 dX0_findMasses_77 (by decide) (fun h4 => ?_) (fun h4 => ?_)
    · replace hf := itb h4 hf
      exact j_sub [] _ rfl (hK0 u hf)
    · replace hf := ieb h4 hf
      refine j_iload_n dX0_findMasses_80 2 rfl ?_
      refine j_if_le (w32 v3) rfl 88 dX0_findMasses_81 (by decide) (fun h3 => ?_) (fun h3 => ?_)
      · replace hf := itb h3 hf
        exact j_sub [0, 1, 2] _ rfl (t0_findMasses_b88 (f0_findMasses_l75 G v0 n) ih hK0 v1 v3 u hf)
      · replace hf := ieb h3 hf
        refine j_aload_n dX0_findMasses_84 0 rfl ?_
        obtain ⟨b1, hb1, hf⟩ := obb hf
        obtain ⟨eb1, tb1⟩ := ztg_s hb1
        obtain ⟨u2, hu2, hf⟩ := obb hf
        refine a_Vv [] [] (t0_fold (some b1) u hu2) ⟨q1771, q1773, qs52, q128, q1774⟩ dv0_fold rfl ⟨(Nat.le_of_ble_eq_true rfl), (Nat.le_of_ble_eq_true rfl)⟩ (c_recv zcl_0 tb1) (by rw [← eb1]; rfl) (Nat.le_of_ble_eq_true rfl) dX0_findMasses_85 ⟨Nat.le_refl 0, Nat.le_refl 0⟩ ?_
        exact j_sub [0, 1, 2] _ rfl (t0_findMasses_b88 (f0_findMasses_l75 G v0 n) ih hK0 v1 v3 u2 hf)
theorem t0_findMasses {G : CG} {A : Nat → Prop} {l : Launch} {r : Sg} (v0 : Option Nat) (u : Sg) (hf : f0_findMasses G v0 u = some r) : JM kC (bC G A) A l yX0_findMasses D0_findMasses [pR v0] u none r 0 0 := by
  refine j_met (lv0 := [(0, pR v0)]) ⟨pl_X0, rfl, rfl, (Nat.le_of_ble_eq_true rfl), rfl⟩ ?_
  unfold f0_findMasses at hf
  refine j_aload_n dX0_findMasses_0 0 rfl ?_
  obtain ⟨x1, hx1, hf⟩ := ob hf
  refine c_geti (ci := 0) (k := 31) hx1 zcl_0 (Nat.le_of_ble_eq_true rfl) zf_X0_522 fk_31 dX0_findMasses_1 ?_
  refine j_if_eq (w32 x1) rfl 8 dX0_findMasses_4 (by decide) (fun h6 => ?_) (fun h6 => ?_)
  · replace hf := it h6 hf
    refine j_aload_n dX0_findMasses_8 0 rfl ?_
    refine j_iconst dX0_findMasses_9 ?_
    obtain ⟨u2, hu2, hf⟩ := ob hf
    refine c_puti (ci := 0) (k := 31) hu2 zcl_0 (Nat.le_of_ble_eq_true rfl) zf_X0_522 fk_31 rfl (fits_Z (Or.inr rfl)) dX0_findMasses_10 ?_
    refine j_lconst (z := 1) dX0_findMasses_13 rfl ?_
    refine j_lstore_n dX0_findMasses_14 [(1, pL 1), (0, pR v0)] (Nat.le_of_ble_eq_true rfl) rfl ?_
    refine j_iconst dX0_findMasses_15 ?_
    refine j_istore_n dX0_findMasses_16 [(3, pI 0), (1, pL 1), (0, pR v0)] (Nat.le_of_ble_eq_true rfl) rfl ?_
    refine j_sub [2, 1, 0] _ rfl (t0_findMasses_l17 v0 u2 ?_ NN 1 0 hf)
    · intro q3 hf
      refine j_iconst dX0_findMasses_36 ?_
      refine j_istore_n dX0_findMasses_37 [(3, pI 0), (0, pR v0), (1, pL q3)] (Nat.le_of_ble_eq_true rfl) rfl ?_
      refine j_sub [1, 2, 0] _ rfl (t0_findMasses_l38 v0 q3 ?_ NN 0 u2 hf)
      · intro q4 hf
        refine j_iconst dX0_findMasses_73 ?_
        refine j_istore_n dX0_findMasses_74 [(3, pI 0), (0, pR v0), (1, pL q3)] (Nat.le_of_ble_eq_true rfl) rfl ?_
        refine j_sub [1, 2, 0] _ rfl (t0_findMasses_l75 v0 ?_ NN q3 0 q4 hf)
        · intro q5 hf
          replace hf := Option.some.inj hf
          subst hf
          exact j_return (bC_mv G A) ⟨Nat.le_refl 0, Nat.le_refl 0⟩ rfl dX0_findMasses_166
  · replace hf := ie h6 hf
    replace hf := Option.some.inj hf
    subst hf
    exact j_return (bC_mv G A) ⟨Nat.le_refl 0, Nat.le_refl 0⟩ rfl dX0_findMasses_7
theorem t0_mass_l27 {G : CG} {A : Nat → Prop} {l : Launch} {a : List PV} {r : Int × Sg} {Kf : Int → Option (Int × Sg)} (v0 : Option Nat) (v1 : Int) (u : Sg) (hK0 : ∀ q : Int, Kf q = some r → JW kC (bC G A) A l D0_mass a (jQ (bC G A) A a (some (pL r.1)) r.2 0 0) 0 0 u 0 0 56 [(2, pL q)] []) : ∀ (n : Nat) (v2 : Int) (v4 : Int), ((f0_mass_l27 G v0 v1 u n v2 v4).bind Kf = some r) → JW kC (bC G A) A l D0_mass a (jQ (bC G A) A a (some (pL r.1)) r.2 0 0) 0 0 u 0 0 27 [(0, pR v0), (1, pI v1), (2, pL v2), (4, pI v4)] [] := by
  intro n
  induction n with
  | zero => intro v2 v4 hf; exact onb hf
  | succ n ih =>
    intro v2 v4 hf
    unfold f0_mass_l27 at hf
    refine j_iload dX0_mass_27 3 rfl ?_
    refine j_sipush dX0_mass_29 (by decide) ?_
    refine j_icmp_gt (w32 v4) 1600 rfl rfl 56 dX0_mass_32 (by decide) (fun h4 => ?_) (fun h4 => ?_)
    · replace hf := itb h4 hf
      exact j_sub [2] _ rfl (hK0 v2 hf)
    · replace hf := ieb h4 hf
      refine j_iload_n dX0_mass_35 1 rfl ?_
      refine j_iconst dX0_mass_36 ?_
      refine j_icmp_ne (w32 v1) (-1) rfl rfl 56 dX0_mass_37 (by decide) (fun h3 => ?_) (fun h3 => ?_)
      · replace hf := ieb h3 hf
        exact j_sub [2] _ rfl (hK0 v2 hf)
      · replace hf := itb h3 hf
        refine j_lload_n dX0_mass_40 2 rfl ?_
        refine j_aload_n dX0_mass_41 0 rfl ?_
        obtain ⟨x1, hx1, hf⟩ := obb hf
        refine c_geta (ci := 0) (k := 28) hx1 zcl_0 (Nat.le_of_ble_eq_true rfl) zf_X0_155 fk_28 dX0_mass_42 ?_
        refine j_iload dX0_mass_45 3 rfl ?_
        obtain ⟨x2, hx2, hf⟩ := obb hf
        refine c_lald hx2 dX0_mass_47 ?_
        refine j_ladd dX0_mass_48 ?_
        refine j_lstore_n dX0_mass_49 [(2, pL (v2 + x2)), (0, pR v0), (1, pI v1), (4, pI v4)] (Nat.le_of_ble_eq_true rfl) rfl ?_
        refine j_iinc dX0_mass_50 3 rfl [(4, pI (v4 + 1)), (2, pL (v2 + x2)), (0, pR v0), (1, pI v1)] (Nat.le_of_ble_eq_true rfl) rfl ?_
        refine j_goto 27 dX0_mass_53 (by decide) ?_
        exact j_sub [2, 3, 1, 0] _ rfl (ih (v2 + x2) (v4 + 1) hf)
theorem t0_mass_b22 {G : CG} {A : Nat → Prop} {l : Launch} {a : List PV} {r : Int × Sg} (v0 : Option Nat) (v1 : Int) (u : Sg) (hf : f0_mass_b22 G v0 v1 u = some r) : JW kC (bC G A) A l D0_mass a (jQ (bC G A) A a (some (pL r.1)) r.2 0 0) 0 0 u 0 0 22 [(0, pR v0), (1, pI v1)] [] := by
  unfold f0_mass_b22 at hf
  refine j_lconst (z := 0) dX0_mass_22 rfl ?_
  refine j_lstore_n dX0_mass_23 [(2, pL 0), (0, pR v0), (1, pI v1)] (Nat.le_of_ble_eq_true rfl) rfl ?_
  refine j_iconst dX0_mass_24 ?_
  refine j_istore dX0_mass_25 [(4, pI 0), (2, pL 0), (0, pR v0), (1, pI v1)] (Nat.le_of_ble_eq_true rfl) rfl ?_
  refine j_sub [2, 3, 1, 0] _ rfl (t0_mass_l27 v0 v1 u ?_ NN 0 0 hf)
  · intro q1 hf
    refine j_lload_n dX0_mass_56 0 rfl ?_
    replace hf := Option.some.inj hf
    subst hf
    exact j_lreturn (bC_mv G A) ⟨Nat.le_refl 0, Nat.le_refl 0⟩ rfl dX0_mass_57
theorem t0_mass {G : CG} {A : Nat → Prop} {l : Launch} {r : Int × Sg} (v0 : Option Nat) (v1 : Int) (u : Sg) (hf : f0_mass G v0 v1 u = some r) : JM kC (bC G A) A l yX0_mass D0_mass [pR v0, pI v1] u (some (pL r.1)) r.2 0 0 := by
  refine j_met (lv0 := [(0, pR v0), (1, pI v1)]) ⟨pl_X0, rfl, rfl, (Nat.le_of_ble_eq_true rfl), rfl⟩ ?_
  unfold f0_mass at hf
  refine j_aload_n dX0_mass_0 0 rfl ?_
  obtain ⟨b1, hb1, hf⟩ := ob hf
  obtain ⟨eb1, tb1⟩ := ztg_s hb1
  obtain ⟨u2, hu2, hf⟩ := ob hf
  refine a_Vv [] [] (t0_findMasses (some b1) u hu2) ⟨q1767, q1769, qs51, q128, q1770⟩ dv0_findMasses rfl ⟨(Nat.le_of_ble_eq_true rfl), (Nat.le_of_ble_eq_true rfl)⟩ (c_recv zcl_0 tb1) (by rw [← eb1]; rfl) (Nat.le_of_ble_eq_true rfl) dX0_mass_1 ⟨Nat.le_refl 0, Nat.le_refl 0⟩ ?_
  refine j_iload_n dX0_mass_4 1 rfl ?_
  refine j_if_lt (w32 v1) rfl 22 dX0_mass_5 (by decide) (fun h6 => ?_) (fun h6 => ?_)
  · replace hf := it h6 hf
    exact j_sub [0, 1] _ rfl (t0_mass_b22 v0 v1 u2 hf)
  · replace hf := ie h6 hf
    refine j_iload_n dX0_mass_8 1 rfl ?_
    refine j_sipush dX0_mass_9 (by decide) ?_
    refine j_icmp_gt (w32 v1) 1600 rfl rfl 22 dX0_mass_12 (by decide) (fun h5 => ?_) (fun h5 => ?_)
    · replace hf := it h5 hf
      exact j_sub [0, 1] _ rfl (t0_mass_b22 v0 v1 u2 hf)
    · replace hf := ie h5 hf
      refine j_aload_n dX0_mass_15 0 rfl ?_
      obtain ⟨x3, hx3, hf⟩ := ob hf
      refine c_geta (ci := 0) (k := 28) hx3 zcl_0 (Nat.le_of_ble_eq_true rfl) zf_X0_155 fk_28 dX0_mass_16 ?_
      refine j_iload_n dX0_mass_19 1 rfl ?_
      obtain ⟨x4, hx4, hf⟩ := ob hf
      refine c_lald hx4 dX0_mass_20 ?_
      replace hf := Option.some.inj hf
      subst hf
      exact j_lreturn (bC_mv G A) ⟨Nat.le_refl 0, Nat.le_refl 0⟩ rfl dX0_mass_21
theorem t0_quantile_l50 {G : CG} {A : Nat → Prop} {l : Launch} {a : List PV} {r : Int × Sg} {Kf : Int → Option (Int × Sg)} (v0 : Option Nat) (v1 : Int) (v2 : Int) (v3 : Int) (u : Sg) (hK0 : ∀ q : Int, Kf q = some r → JW kC (bC G A) A l D0_quantile a (jQ (bC G A) A a (some (pI r.1)) r.2 0 0) 0 0 u 0 0 81 [(7, pI q)] []) : ∀ (n : Nat) (v5 : Int) (v7 : Int), ((f0_quantile_l50 G v0 v1 v2 v3 u n v5 v7).bind Kf = some r) → JW kC (bC G A) A l D0_quantile a (jQ (bC G A) A a (some (pI r.1)) r.2 0 0) 0 0 u 0 0 50 [(0, pR v0), (1, pI v1), (2, pI v2), (3, pL v3), (5, pL v5), (7, pI v7)] [] := by
  intro n
  induction n with
  | zero => intro v5 v7 hf; exact onb hf
  | succ n ih =>
    intro v5 v7 hf
    unfold f0_quantile_l50 at hf
    refine j_iload_n dX0_quantile_50 2 rfl ?_
    refine j_i2l dX0_quantile_51 ?_
    refine j_lload dX0_quantile_52 4 rfl ?_
    refine j_lmul dX0_quantile_54 ?_
    refine j_iload_n dX0_quantile_55 1 rfl ?_
    refine j_i2l dX0_quantile_56 ?_
    refine j_lload_n dX0_quantile_57 3 rfl ?_
    refine j_lmul dX0_quantile_58 ?_
    refine j_lc_ge 81 dX0_quantile_59 dX0_quantile_60 (by decide) (fun h3 => ?_) (fun h3 => ?_)
    · replace hf := itb h3 hf
      exact j_sub [5] _ rfl (hK0 v7 hf)
    · replace hf := ieb h3 hf
      refine j_lload dX0_quantile_63 4 rfl ?_
      refine j_aload_n dX0_quantile_65 0 rfl ?_
      obtain ⟨x1, hx1, hf⟩ := obb hf
      refine c_geta (ci := 0) (k := 28) hx1 zcl_0 (Nat.le_of_ble_eq_true rfl) zf_X0_155 fk_28 dX0_quantile_66 ?_
      refine j_iinc dX0_quantile_69 5 rfl [(7, pI (v7 + 1)), (0, pR v0), (1, pI v1), (2, pI v2), (3, pL v3), (5, pL v5)] (Nat.le_of_ble_eq_true rfl) rfl ?_
      refine j_iload dX0_quantile_72 0 rfl ?_
      obtain ⟨x2, hx2, hf⟩ := obb hf
      refine c_lald hx2 dX0_quantile_74 ?_
      refine j_ladd dX0_quantile_75 ?_
      refine j_lstore dX0_quantile_76 [(5, pL (v5 + x2)), (7, pI (v7 + 1)), (0, pR v0), (1, pI v1), (2, pI v2), (3, pL v3)] (Nat.le_of_ble_eq_true rfl) rfl ?_
      refine j_goto 50 dX0_quantile_78 (by decide) ?_
      exact j_sub [2, 3, 4, 5, 0, 1] _ rfl (ih (v5 + x2) (v7 + 1) hf)
theorem t0_quantile {G : CG} {A : Nat → Prop} {l : Launch} {r : Int × Sg} (v0 : Option Nat) (v1 : Int) (v2 : Int) (u : Sg) (hf : f0_quantile G v0 v1 v2 u = some r) : JM kC (bC G A) A l yX0_quantile D0_quantile [pR v0, pI v1, pI v2] u (some (pI r.1)) r.2 0 0 := by
  refine j_met (lv0 := [(0, pR v0), (1, pI v1), (2, pI v2)]) ⟨pl_X0, rfl, rfl, (Nat.le_of_ble_eq_true rfl), rfl⟩ ?_
  unfold f0_quantile at hf
  refine j_iload_n dX0_quantile_0 2 rfl ?_
  refine j_iconst dX0_quantile_1 ?_
  refine j_icmp_lt (w32 v2) 1 rfl rfl 21 dX0_quantile_2 (by decide) (fun h10 => ?_) (fun h10 => ?_)
  · replace hf := it h10 hf
    refine j_bipush dX0_quantile_21 (by decide) ?_
    replace hf := Option.some.inj hf
    subst hf
    exact j_ireturn (bC_mv G A) ⟨Nat.le_refl 0, Nat.le_refl 0⟩ rfl dX0_quantile_23
  · replace hf := ie h10 hf
    refine j_iload_n dX0_quantile_5 2 rfl ?_
    refine j_sipush dX0_quantile_6 (by decide) ?_
    refine j_icmp_gt (w32 v2) 1000 rfl rfl 21 dX0_quantile_9 (by decide) (fun h9 => ?_) (fun h9 => ?_)
    · replace hf := it h9 hf
      refine j_bipush dX0_quantile_21 (by decide) ?_
      replace hf := Option.some.inj hf
      subst hf
      exact j_ireturn (bC_mv G A) ⟨Nat.le_refl 0, Nat.le_refl 0⟩ rfl dX0_quantile_23
    · replace hf := ie h9 hf
      refine j_iload_n dX0_quantile_12 1 rfl ?_
      refine j_if_lt (w32 v1) rfl 21 dX0_quantile_13 (by decide) (fun h8 => ?_) (fun h8 => ?_)
      · replace hf := it h8 hf
        refine j_bipush dX0_quantile_21 (by decide) ?_
        replace hf := Option.some.inj hf
        subst hf
        exact j_ireturn (bC_mv G A) ⟨Nat.le_refl 0, Nat.le_refl 0⟩ rfl dX0_quantile_23
      · replace hf := ie h8 hf
        refine j_iload_n dX0_quantile_16 1 rfl ?_
        refine j_iload_n dX0_quantile_17 2 rfl ?_
        refine j_icmp_le (w32 v1) (w32 v2) rfl rfl 24 dX0_quantile_18 (by decide) (fun h7 => ?_) (fun h7 => ?_)
        · replace hf := it h7 hf
          refine j_aload_n dX0_quantile_24 0 rfl ?_
          refine j_iconst dX0_quantile_25 ?_
          obtain ⟨b1, hb1, hf⟩ := ob hf
          obtain ⟨eb1, tb1⟩ := ztg_s hb1
          obtain ⟨q2, hq2, hf⟩ := ob hf
          refine a_Vr [pI (-1)] [] (t0_mass (some b1) (-1) u hq2) ⟨q1779, q1764, q1765, q128, q1766⟩ dv0_mass rfl ⟨(Nat.le_of_ble_eq_true rfl), (Nat.le_of_ble_eq_true rfl)⟩ (c_recv zcl_0 tb1) (by rw [← eb1]; rfl) (Nat.le_of_ble_eq_true rfl) dX0_quantile_26 ⟨Nat.le_refl 0, Nat.le_refl 0⟩ ?_
          refine j_lstore_n dX0_quantile_29 [(3, pL q2.1), (0, pR v0), (1, pI v1), (2, pI v2)] (Nat.le_of_ble_eq_true rfl) rfl ?_
          refine j_lload_n dX0_quantile_30 0 rfl ?_
          refine j_lconst (z := 0) dX0_quantile_31 rfl ?_
          refine j_lc_ne 39 dX0_quantile_32 dX0_quantile_33 (by decide) (fun h6 => ?_) (fun h6 => ?_)
          · replace hf := ie h6 hf
            refine j_aload_n dX0_quantile_39 1 rfl ?_
            obtain ⟨x3, hx3, hf⟩ := ob hf
            refine c_geta (ci := 0) (k := 28) hx3 zcl_0 (Nat.le_of_ble_eq_true rfl) zf_X0_155 fk_28 dX0_quantile_40 ?_
            refine j_iconst dX0_quantile_43 ?_
            obtain ⟨x4, hx4, hf⟩ := ob hf
            refine c_lald hx4 dX0_quantile_44 ?_
            refine j_lstore dX0_quantile_45 [(5, pL x4), (3, pL q2.1), (0, pR v0), (1, pI v1), (2, pI v2)] (Nat.le_of_ble_eq_true rfl) rfl ?_
            refine j_iconst dX0_quantile_47 ?_
            refine j_istore dX0_quantile_48 [(7, pI 0), (5, pL x4), (3, pL q2.1), (0, pR v0), (1, pI v1), (2, pI v2)] (Nat.le_of_ble_eq_true rfl) rfl ?_
            refine j_sub [3, 4, 5, 2, 1, 0] _ rfl (t0_quantile_l50 v0 v1 v2 q2.1 q2.2 ?_ NN x4 0 hf)
            · intro q5 hf
              refine j_iload dX0_quantile_81 0 rfl ?_
              replace hf := Option.some.inj hf
              subst hf
              exact j_ireturn (bC_mv G A) ⟨Nat.le_refl 0, Nat.le_refl 0⟩ rfl dX0_quantile_83
          · replace hf := it h6 hf
            refine j_bipush dX0_quantile_36 (by decide) ?_
            replace hf := Option.some.inj hf
            subst hf
            exact j_ireturn (bC_mv G A) ⟨Nat.le_refl 0, Nat.le_refl 0⟩ rfl dX0_quantile_38
        · replace hf := ie h7 hf
          refine j_bipush dX0_quantile_21 (by decide) ?_
          replace hf := Option.some.inj hf
          subst hf
          exact j_ireturn (bC_mv G A) ⟨Nat.le_refl 0, Nat.le_refl 0⟩ rfl dX0_quantile_23
theorem t0_beyond_l26 {G : CG} {A : Nat → Prop} {l : Launch} {a : List PV} {r : Int × Sg} {Kf : Int → Option (Int × Sg)} (v0 : Option Nat) (v1 : Int) (u : Sg) (hK0 : ∀ q : Int, Kf q = some r → JW kC (bC G A) A l D0_beyond a (jQ (bC G A) A a (some (pL r.1)) r.2 0 0) 0 0 u 0 0 56 [(2, pL q)] []) : ∀ (n : Nat) (v2 : Int) (v4 : Int), ((f0_beyond_l26 G v0 v1 u n v2 v4).bind Kf = some r) → JW kC (bC G A) A l D0_beyond a (jQ (bC G A) A a (some (pL r.1)) r.2 0 0) 0 0 u 0 0 26 [(0, pR v0), (1, pI v1), (2, pL v2), (4, pI v4)] [] := by
  intro n
  induction n with
  | zero => intro v2 v4 hf; exact onb hf
  | succ n ih =>
    intro v2 v4 hf
    unfold f0_beyond_l26 at hf
    refine j_iload dX0_beyond_26 3 rfl ?_
    refine j_sipush dX0_beyond_28 (by decide) ?_
    refine j_icmp_gt (w32 v4) 1600 rfl rfl 56 dX0_beyond_31 (by decide) (fun h3 => ?_) (fun h3 => ?_)
    · replace hf := itb h3 hf
      exact j_sub [2] _ rfl (hK0 v2 hf)
    · replace hf := ieb h3 hf
      refine j_lload_n dX0_beyond_34 2 rfl ?_
      refine j_iload dX0_beyond_35 3 rfl ?_
      refine j_iload_n dX0_beyond_37 1 rfl ?_
      refine j_isub dX0_beyond_38 ?_
      refine j_i2l dX0_beyond_39 ?_
      refine j_aload_n dX0_beyond_40 0 rfl ?_
      obtain ⟨x1, hx1, hf⟩ := obb hf
      refine c_geta (ci := 0) (k := 28) hx1 zcl_0 (Nat.le_of_ble_eq_true rfl) zf_X0_155 fk_28 dX0_beyond_41 ?_
      refine j_iload dX0_beyond_44 3 rfl ?_
      obtain ⟨x2, hx2, hf⟩ := obb hf
      refine c_lald hx2 dX0_beyond_46 ?_
      refine j_lmul dX0_beyond_47 ?_
      refine j_ladd dX0_beyond_48 ?_
      refine j_lstore_n dX0_beyond_49 [(2, pL (v2 + ((w32 (v4 - v1)) * x2))), (0, pR v0), (1, pI v1), (4, pI v4)] (Nat.le_of_ble_eq_true rfl) rfl ?_
      refine j_iinc dX0_beyond_50 3 rfl [(4, pI (v4 + 1)), (2, pL (v2 + ((w32 (v4 - v1)) * x2))), (0, pR v0), (1, pI v1)] (Nat.le_of_ble_eq_true rfl) rfl ?_
      refine j_goto 26 dX0_beyond_53 (by decide) ?_
      exact j_sub [2, 3, 1, 0] _ rfl (ih (v2 + ((w32 (v4 - v1)) * x2)) (v4 + 1) hf)
theorem t0_beyond {G : CG} {A : Nat → Prop} {l : Launch} {r : Int × Sg} (v0 : Option Nat) (v1 : Int) (u : Sg) (hf : f0_beyond G v0 v1 u = some r) : JM kC (bC G A) A l yX0_beyond D0_beyond [pR v0, pI v1] u (some (pL r.1)) r.2 0 0 := by
  refine j_met (lv0 := [(0, pR v0), (1, pI v1)]) ⟨pl_X0, rfl, rfl, (Nat.le_of_ble_eq_true rfl), rfl⟩ ?_
  unfold f0_beyond at hf
  refine j_iload_n dX0_beyond_0 1 rfl ?_
  refine j_if_lt (w32 v1) rfl 11 dX0_beyond_1 (by decide) (fun h5 => ?_) (fun h5 => ?_)
  · replace hf := it h5 hf
    refine j_ldc2 (z := (-2)) q1711 (by decide) dX0_beyond_11 ?_
    replace hf := Option.some.inj hf
    subst hf
    exact j_lreturn (bC_mv G A) ⟨Nat.le_refl 0, Nat.le_refl 0⟩ rfl dX0_beyond_14
  · replace hf := ie h5 hf
    refine j_iload_n dX0_beyond_4 1 rfl ?_
    refine j_sipush dX0_beyond_5 (by decide) ?_
    refine j_icmp_le (w32 v1) 1600 rfl rfl 15 dX0_beyond_8 (by decide) (fun h4 => ?_) (fun h4 => ?_)
    · replace hf := it h4 hf
      refine j_aload_n dX0_beyond_15 0 rfl ?_
      obtain ⟨b1, hb1, hf⟩ := ob hf
      obtain ⟨eb1, tb1⟩ := ztg_s hb1
      obtain ⟨u2, hu2, hf⟩ := ob hf
      refine a_Vv [] [] (t0_findMasses (some b1) u hu2) ⟨q1767, q1769, qs51, q128, q1770⟩ dv0_findMasses rfl ⟨(Nat.le_of_ble_eq_true rfl), (Nat.le_of_ble_eq_true rfl)⟩ (c_recv zcl_0 tb1) (by rw [← eb1]; rfl) (Nat.le_of_ble_eq_true rfl) dX0_beyond_16 ⟨Nat.le_refl 0, Nat.le_refl 0⟩ ?_
      refine j_lconst (z := 0) dX0_beyond_19 rfl ?_
      refine j_lstore_n dX0_beyond_20 [(2, pL 0), (0, pR v0), (1, pI v1)] (Nat.le_of_ble_eq_true rfl) rfl ?_
      refine j_iload_n dX0_beyond_21 2 rfl ?_
      refine j_iconst dX0_beyond_22 ?_
      refine j_iadd dX0_beyond_23 ?_
      refine j_istore dX0_beyond_24 [(4, pI (v1 + 1)), (2, pL 0), (0, pR v0), (1, pI v1)] (Nat.le_of_ble_eq_true rfl) rfl ?_
      refine j_sub [2, 3, 1, 0] _ rfl (t0_beyond_l26 v0 v1 u2 ?_ NN 0 (v1 + 1) hf)
      · intro q3 hf
        refine j_lload_n dX0_beyond_56 0 rfl ?_
        replace hf := Option.some.inj hf
        subst hf
        exact j_lreturn (bC_mv G A) ⟨Nat.le_refl 0, Nat.le_refl 0⟩ rfl dX0_beyond_57
    · replace hf := ie h4 hf
      refine j_ldc2 (z := (-2)) q1711 (by decide) dX0_beyond_11 ?_
      replace hf := Option.some.inj hf
      subst hf
      exact j_lreturn (bC_mv G A) ⟨Nat.le_refl 0, Nat.le_refl 0⟩ rfl dX0_beyond_14
theorem t0_told {G : CG} {A : Nat → Prop} {l : Launch} {r : Int} (v0 : Option Nat) (v1 : Int) (u : Sg) (hf : f0_told G v0 v1 u = some r) : JM kC (bC G A) A l yX0_told D0_told [pR v0, pI v1] u (some (pI r)) u 0 0 := by
  refine j_met (lv0 := [(0, pR v0), (1, pI v1)]) ⟨pl_X0, rfl, rfl, (Nat.le_of_ble_eq_true rfl), rfl⟩ ?_
  unfold f0_told at hf
  refine j_iload_n dX0_told_0 1 rfl ?_
  rcases Decidable.em ((w32 v1) = 0) with h1 | h1
  · replace hf := it h1 hf
    refine j_tabIn (z := 0) 48 dX0_told_1 h1 ⟨⟨by decide, by decide⟩, rfl⟩ (by decide) ?_
    refine j_aload_n dX0_told_48 0 rfl ?_
    obtain ⟨x2, hx2, hf⟩ := ob hf
    refine c_geta (ci := 0) (k := 5) hx2 zcl_0 (Nat.le_of_ble_eq_true rfl) zf_X0_82 fk_5 dX0_told_49 ?_
    obtain ⟨b3, hb3, hf⟩ := ob hf
    obtain ⟨eb3, tb3⟩ := ztg_s hb3
    obtain ⟨x4, hx4, hf⟩ := ob hf
    refine a_Fr (x := ix_0) [] [] (tJ2_size (some b3) u hx4) ⟨q556, q559, q561, q131, q563⟩ iF_0 df_0 rfl ⟨(Nat.le_of_ble_eq_true rfl), (Nat.le_of_ble_eq_true rfl)⟩ zcl_5 rfl tb3 (by rw [← eb3]; rfl) (Nat.le_of_ble_eq_true rfl) dX0_told_52 ⟨Nat.le_refl 0, Nat.le_refl 0⟩ ?_
    replace hf := Option.some.inj hf
    subst hf
    exact j_ireturn (bC_mv G A) ⟨Nat.le_refl 0, Nat.le_refl 0⟩ rfl dX0_told_57
  replace hf := ie h1 hf
  rcases Decidable.em ((w32 v1) = 1) with h5 | h5
  · replace hf := it h5 hf
    refine j_tabIn (z := 1) 58 dX0_told_1 h5 ⟨⟨by decide, by decide⟩, rfl⟩ (by decide) ?_
    refine j_aload_n dX0_told_58 0 rfl ?_
    obtain ⟨x6, hx6, hf⟩ := ob hf
    refine c_geta (ci := 0) (k := 6) hx6 zcl_0 (Nat.le_of_ble_eq_true rfl) zf_X0_86 fk_6 dX0_told_59 ?_
    obtain ⟨b7, hb7, hf⟩ := ob hf
    obtain ⟨eb7, tb7⟩ := ztg_s hb7
    obtain ⟨x8, hx8, hf⟩ := ob hf
    refine a_Fr (x := ix_0) [] [] (tJ2_size (some b7) u hx8) ⟨q556, q559, q561, q131, q563⟩ iF_0 df_0 rfl ⟨(Nat.le_of_ble_eq_true rfl), (Nat.le_of_ble_eq_true rfl)⟩ zcl_5 rfl tb7 (by rw [← eb7]; rfl) (Nat.le_of_ble_eq_true rfl) dX0_told_62 ⟨Nat.le_refl 0, Nat.le_refl 0⟩ ?_
    replace hf := Option.some.inj hf
    subst hf
    exact j_ireturn (bC_mv G A) ⟨Nat.le_refl 0, Nat.le_refl 0⟩ rfl dX0_told_67
  replace hf := ie h5 hf
  rcases Decidable.em ((w32 v1) = 2) with h9 | h9
  · replace hf := it h9 hf
    refine j_tabIn (z := 2) 68 dX0_told_1 h9 ⟨⟨by decide, by decide⟩, rfl⟩ (by decide) ?_
    refine j_aload_n dX0_told_68 0 rfl ?_
    obtain ⟨x10, hx10, hf⟩ := ob hf
    refine c_geta (ci := 0) (k := 7) hx10 zcl_0 (Nat.le_of_ble_eq_true rfl) zf_X0_89 fk_7 dX0_told_69 ?_
    obtain ⟨b11, hb11, hf⟩ := ob hf
    obtain ⟨eb11, tb11⟩ := ztg_s hb11
    obtain ⟨x12, hx12, hf⟩ := ob hf
    refine a_Fr (x := ix_0) [] [] (tJ2_size (some b11) u hx12) ⟨q556, q559, q561, q131, q563⟩ iF_0 df_0 rfl ⟨(Nat.le_of_ble_eq_true rfl), (Nat.le_of_ble_eq_true rfl)⟩ zcl_5 rfl tb11 (by rw [← eb11]; rfl) (Nat.le_of_ble_eq_true rfl) dX0_told_72 ⟨Nat.le_refl 0, Nat.le_refl 0⟩ ?_
    replace hf := Option.some.inj hf
    subst hf
    exact j_ireturn (bC_mv G A) ⟨Nat.le_refl 0, Nat.le_refl 0⟩ rfl dX0_told_77
  replace hf := ie h9 hf
  rcases Decidable.em ((w32 v1) = 3) with h13 | h13
  · replace hf := it h13 hf
    refine j_tabIn (z := 3) 78 dX0_told_1 h13 ⟨⟨by decide, by decide⟩, rfl⟩ (by decide) ?_
    refine j_aload_n dX0_told_78 0 rfl ?_
    obtain ⟨x14, hx14, hf⟩ := ob hf
    refine c_geta (ci := 0) (k := 8) hx14 zcl_0 (Nat.le_of_ble_eq_true rfl) zf_X0_92 fk_8 dX0_told_79 ?_
    obtain ⟨b15, hb15, hf⟩ := ob hf
    obtain ⟨eb15, tb15⟩ := ztg_s hb15
    obtain ⟨x16, hx16, hf⟩ := ob hf
    refine a_Fr (x := ix_0) [] [] (tJ2_size (some b15) u hx16) ⟨q556, q559, q561, q131, q563⟩ iF_0 df_0 rfl ⟨(Nat.le_of_ble_eq_true rfl), (Nat.le_of_ble_eq_true rfl)⟩ zcl_5 rfl tb15 (by rw [← eb15]; rfl) (Nat.le_of_ble_eq_true rfl) dX0_told_82 ⟨Nat.le_refl 0, Nat.le_refl 0⟩ ?_
    replace hf := Option.some.inj hf
    subst hf
    exact j_ireturn (bC_mv G A) ⟨Nat.le_refl 0, Nat.le_refl 0⟩ rfl dX0_told_87
  replace hf := ie h13 hf
  rcases Decidable.em ((w32 v1) = 4) with h17 | h17
  · replace hf := it h17 hf
    refine j_tabIn (z := 4) 88 dX0_told_1 h17 ⟨⟨by decide, by decide⟩, rfl⟩ (by decide) ?_
    refine j_aload_n dX0_told_88 0 rfl ?_
    obtain ⟨x18, hx18, hf⟩ := ob hf
    refine c_geti (ci := 0) (k := 12) hx18 zcl_0 (Nat.le_of_ble_eq_true rfl) zf_X0_486 fk_12 dX0_told_89 ?_
    replace hf := Option.some.inj hf
    subst hf
    exact j_ireturn (bC_mv G A) ⟨Nat.le_refl 0, Nat.le_refl 0⟩ rfl dX0_told_92
  replace hf := ie h17 hf
  rcases Decidable.em ((w32 v1) = 5) with h19 | h19
  · replace hf := it h19 hf
    refine j_tabIn (z := 5) 93 dX0_told_1 h19 ⟨⟨by decide, by decide⟩, rfl⟩ (by decide) ?_
    refine j_aload_n dX0_told_93 0 rfl ?_
    obtain ⟨x20, hx20, hf⟩ := ob hf
    refine c_geti (ci := 0) (k := 22) hx20 zcl_0 (Nat.le_of_ble_eq_true rfl) zf_X0_497 fk_22 dX0_told_94 ?_
    replace hf := Option.some.inj hf
    subst hf
    exact j_ireturn (bC_mv G A) ⟨Nat.le_refl 0, Nat.le_refl 0⟩ rfl dX0_told_97
  replace hf := ie h19 hf
  rcases Decidable.em ((w32 v1) = 6) with h21 | h21
  · replace hf := it h21 hf
    refine j_tabIn (z := 6) 98 dX0_told_1 h21 ⟨⟨by decide, by decide⟩, rfl⟩ (by decide) ?_
    refine j_aload_n dX0_told_98 0 rfl ?_
    obtain ⟨x22, hx22, hf⟩ := ob hf
    refine c_geti (ci := 0) (k := 26) hx22 zcl_0 (Nat.le_of_ble_eq_true rfl) zf_X0_519 fk_26 dX0_told_99 ?_
    replace hf := Option.some.inj hf
    subst hf
    exact j_ireturn (bC_mv G A) ⟨Nat.le_refl 0, Nat.le_refl 0⟩ rfl dX0_told_102
  replace hf := ie h21 hf
  rcases Decidable.em ((w32 v1) = 7) with h23 | h23
  · replace hf := it h23 hf
    refine j_tabIn (z := 7) 103 dX0_told_1 h23 ⟨⟨by decide, by decide⟩, rfl⟩ (by decide) ?_
    refine j_aload_n dX0_told_103 0 rfl ?_
    obtain ⟨x24, hx24, hf⟩ := ob hf
    refine c_geti (ci := 0) (k := 2) hx24 zcl_0 (Nat.le_of_ble_eq_true rfl) zf_X0_164 fk_2 dX0_told_104 ?_
    replace hf := Option.some.inj hf
    subst hf
    exact j_ireturn (bC_mv G A) ⟨Nat.le_refl 0, Nat.le_refl 0⟩ rfl dX0_told_107
  replace hf := ie h23 hf
  refine j_tabOut 108 dX0_told_1 (by omega) (by decide) ?_
  refine j_bipush dX0_told_108 (by decide) ?_
  replace hf := Option.some.inj hf
  subst hf
  exact j_ireturn (bC_mv G A) ⟨Nat.le_refl 0, Nat.le_refl 0⟩ rfl dX0_told_110

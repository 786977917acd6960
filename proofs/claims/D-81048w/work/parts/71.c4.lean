theorem t0_wordingPart {G : CG} {A : Nat → Prop} {l : Launch} {r : Int} (v0 : Option Nat) (v1 : Int) (v2 : Int) (u : Sg) (hf : f0_wordingPart G v0 v1 v2 u = some r) : JM kC (bC G A) A l yX0_wordingPart D0_wordingPart [pR v0, pI v1, pI v2] u (some (pI r)) u 0 0 := by
  refine j_met (lv0 := [(0, pR v0), (1, pI v1), (2, pI v2)]) ⟨pl_X0, rfl, rfl, (Nat.le_of_ble_eq_true rfl), rfl⟩ ?_
  unfold f0_wordingPart at hf
  refine j_aload_n dX0_wordingPart_0 0 rfl ?_
  refine j_iload_n dX0_wordingPart_1 1 rfl ?_
  obtain ⟨b1, hb1, hf⟩ := ob hf
  obtain ⟨eb1, tb1⟩ := ztg_s hb1
  obtain ⟨x2, hx2, hf⟩ := ob hf
  refine a_Vr [pI v1] [] (t0_isWording (some b1) v1 u hx2) ⟨q1264, q1266, qs37, q128, q1267⟩ dv0_isWording rfl ⟨(Nat.le_of_ble_eq_true rfl), (Nat.le_of_ble_eq_true rfl)⟩ (c_recv zcl_0 tb1) (by rw [← eb1]; rfl) (Nat.le_of_ble_eq_true rfl) dX0_wordingPart_2 ⟨Nat.le_refl 0, Nat.le_refl 0⟩ ?_
  refine j_if_ne (w32 x2) rfl 10 dX0_wordingPart_5 (by decide) (fun h34 => ?_) (fun h34 => ?_)
  · replace hf := ie h34 hf
    refine j_aload_n dX0_wordingPart_10 0 rfl ?_
    refine j_iload_n dX0_wordingPart_11 1 rfl ?_
    obtain ⟨b3, hb3, hf⟩ := ob hf
    obtain ⟨eb3, tb3⟩ := ztg_s hb3
    obtain ⟨x4, hx4, hf⟩ := ob hf
    refine a_Vr [pI v1] [] (t0_the (some b3) v1 u hx4) ⟨q1268, q1270, qs38, q128, q1271⟩ dv0_the rfl ⟨(Nat.le_of_ble_eq_true rfl), (Nat.le_of_ble_eq_true rfl)⟩ (c_recv zcl_0 tb3) (by rw [← eb3]; rfl) (Nat.le_of_ble_eq_true rfl) dX0_wordingPart_12 ⟨Nat.le_refl 0, Nat.le_refl 0⟩ ?_
    refine j_astore_n dX0_wordingPart_15 [(3, pR x4), (0, pR v0), (1, pI v1), (2, pI v2)] (Nat.le_of_ble_eq_true rfl) rfl ?_
    refine j_iload_n dX0_wordingPart_16 3 rfl ?_
    rcases Decidable.em ((w32 v2) = 0) with h5 | h5
    · replace hf := it h5 hf
      refine j_tabIn (z := 0) 72 dX0_wordingPart_17 h5 ⟨⟨by decide, by decide⟩, rfl⟩ (by decide) ?_
      refine j_aload_n dX0_wordingPart_72 0 rfl ?_
      obtain ⟨x6, hx6, hf⟩ := ob hf
      refine c_getaN (ci := 6) (k := 0) hx6 zcl_6 (Nat.le_of_ble_eq_true rfl) zf_X0_240 fk_240 dX0_wordingPart_73 ?_
      obtain ⟨b7, hb7, hf⟩ := ob hf
      obtain ⟨eb7, tb7⟩ := ztg_s hb7
      obtain ⟨x8, hx8, hf⟩ := ob hf
      refine a_Fr (x := ix_0) [] [] (tJ2_size (some b7) u hx8) ⟨q556, q559, q561, q131, q563⟩ iF_0 df_0 rfl ⟨(Nat.le_of_ble_eq_true rfl), (Nat.le_of_ble_eq_true rfl)⟩ zcl_5 rfl tb7 (by rw [← eb7]; rfl) (Nat.le_of_ble_eq_true rfl) dX0_wordingPart_76 ⟨Nat.le_refl 0, Nat.le_refl 0⟩ ?_
      replace hf := Option.some.inj hf
      subst hf
      exact j_ireturn (bC_mv G A) ⟨Nat.le_refl 0, Nat.le_refl 0⟩ rfl dX0_wordingPart_81
    replace hf := ie h5 hf
    rcases Decidable.em ((w32 v2) = 1) with h9 | h9
    · replace hf := it h9 hf
      refine j_tabIn (z := 1) 82 dX0_wordingPart_17 h9 ⟨⟨by decide, by decide⟩, rfl⟩ (by decide) ?_
      refine j_aload_n dX0_wordingPart_82 0 rfl ?_
      obtain ⟨x10, hx10, hf⟩ := ob hf
      refine c_getaN (ci := 6) (k := 3) hx10 zcl_6 (Nat.le_of_ble_eq_true rfl) zf_X0_243 fk_243 dX0_wordingPart_83 ?_
      obtain ⟨b11, hb11, hf⟩ := ob hf
      obtain ⟨eb11, tb11⟩ := ztg_s hb11
      obtain ⟨x12, hx12, hf⟩ := ob hf
      refine a_Fr (x := ix_0) [] [] (tJ2_size (some b11) u hx12) ⟨q556, q559, q561, q131, q563⟩ iF_0 df_0 rfl ⟨(Nat.le_of_ble_eq_true rfl), (Nat.le_of_ble_eq_true rfl)⟩ zcl_5 rfl tb11 (by rw [← eb11]; rfl) (Nat.le_of_ble_eq_true rfl) dX0_wordingPart_86 ⟨Nat.le_refl 0, Nat.le_refl 0⟩ ?_
      replace hf := Option.some.inj hf
      subst hf
      exact j_ireturn (bC_mv G A) ⟨Nat.le_refl 0, Nat.le_refl 0⟩ rfl dX0_wordingPart_91
    replace hf := ie h9 hf
    rcases Decidable.em ((w32 v2) = 2) with h13 | h13
    · replace hf := it h13 hf
      refine j_tabIn (z := 2) 92 dX0_wordingPart_17 h13 ⟨⟨by decide, by decide⟩, rfl⟩ (by decide) ?_
      refine j_aload_n dX0_wordingPart_92 0 rfl ?_
      obtain ⟨x14, hx14, hf⟩ := ob hf
      refine c_getaN (ci := 6) (k := 4) hx14 zcl_6 (Nat.le_of_ble_eq_true rfl) zf_X0_246 fk_244 dX0_wordingPart_93 ?_
      obtain ⟨b15, hb15, hf⟩ := ob hf
      obtain ⟨eb15, tb15⟩ := ztg_s hb15
      obtain ⟨x16, hx16, hf⟩ := ob hf
      refine a_Fr (x := ix_0) [] [] (tJ2_size (some b15) u hx16) ⟨q556, q559, q561, q131, q563⟩ iF_0 df_0 rfl ⟨(Nat.le_of_ble_eq_true rfl), (Nat.le_of_ble_eq_true rfl)⟩ zcl_5 rfl tb15 (by rw [← eb15]; rfl) (Nat.le_of_ble_eq_true rfl) dX0_wordingPart_96 ⟨Nat.le_refl 0, Nat.le_refl 0⟩ ?_
      replace hf := Option.some.inj hf
      subst hf
      exact j_ireturn (bC_mv G A) ⟨Nat.le_refl 0, Nat.le_refl 0⟩ rfl dX0_wordingPart_101
    replace hf := ie h13 hf
    rcases Decidable.em ((w32 v2) = 3) with h17 | h17
    · replace hf := it h17 hf
      refine j_tabIn (z := 3) 102 dX0_wordingPart_17 h17 ⟨⟨by decide, by decide⟩, rfl⟩ (by decide) ?_
      refine j_aload_n dX0_wordingPart_102 0 rfl ?_
      obtain ⟨x18, hx18, hf⟩ := ob hf
      refine c_getiN (ci := 6) (k := 11) hx18 zcl_6 (Nat.le_of_ble_eq_true rfl) zf_X0_249 fk_251 dX0_wordingPart_103 ?_
      replace hf := Option.some.inj hf
      subst hf
      exact j_ireturn (bC_mv G A) ⟨Nat.le_refl 0, Nat.le_refl 0⟩ rfl dX0_wordingPart_106
    replace hf := ie h17 hf
    rcases Decidable.em ((w32 v2) = 4) with h19 | h19
    · replace hf := it h19 hf
      refine j_tabIn (z := 4) 107 dX0_wordingPart_17 h19 ⟨⟨by decide, by decide⟩, rfl⟩ (by decide) ?_
      refine j_aload_n dX0_wordingPart_107 0 rfl ?_
      obtain ⟨x20, hx20, hf⟩ := ob hf
      refine c_getiN (ci := 6) (k := 9) hx20 zcl_6 (Nat.le_of_ble_eq_true rfl) zf_X0_252 fk_249 dX0_wordingPart_108 ?_
      replace hf := Option.some.inj hf
      subst hf
      exact j_ireturn (bC_mv G A) ⟨Nat.le_refl 0, Nat.le_refl 0⟩ rfl dX0_wordingPart_111
    replace hf := ie h19 hf
    rcases Decidable.em ((w32 v2) = 5) with h21 | h21
    · replace hf := it h21 hf
      refine j_tabIn (z := 5) 112 dX0_wordingPart_17 h21 ⟨⟨by decide, by decide⟩, rfl⟩ (by decide) ?_
      refine j_aload_n dX0_wordingPart_112 0 rfl ?_
      obtain ⟨x22, hx22, hf⟩ := ob hf
      refine c_getiN (ci := 6) (k := 5) hx22 zcl_6 (Nat.le_of_ble_eq_true rfl) zf_X0_255 fk_245 dX0_wordingPart_113 ?_
      replace hf := Option.some.inj hf
      subst hf
      exact j_ireturn (bC_mv G A) ⟨Nat.le_refl 0, Nat.le_refl 0⟩ rfl dX0_wordingPart_116
    replace hf := ie h21 hf
    rcases Decidable.em ((w32 v2) = 6) with h23 | h23
    · replace hf := it h23 hf
      refine j_tabIn (z := 6) 117 dX0_wordingPart_17 h23 ⟨⟨by decide, by decide⟩, rfl⟩ (by decide) ?_
      refine j_aload_n dX0_wordingPart_117 0 rfl ?_
      obtain ⟨x24, hx24, hf⟩ := ob hf
      refine c_getiN (ci := 6) (k := 6) hx24 zcl_6 (Nat.le_of_ble_eq_true rfl) zf_X0_258 fk_246 dX0_wordingPart_118 ?_
      replace hf := Option.some.inj hf
      subst hf
      exact j_ireturn (bC_mv G A) ⟨Nat.le_refl 0, Nat.le_refl 0⟩ rfl dX0_wordingPart_121
    replace hf := ie h23 hf
    rcases Decidable.em ((w32 v2) = 7) with h25 | h25
    · replace hf := it h25 hf
      refine j_tabIn (z := 7) 122 dX0_wordingPart_17 h25 ⟨⟨by decide, by decide⟩, rfl⟩ (by decide) ?_
      refine j_aload_n dX0_wordingPart_122 0 rfl ?_
      obtain ⟨x26, hx26, hf⟩ := ob hf
      refine c_getaN (ci := 6) (k := 7) hx26 zcl_6 (Nat.le_of_ble_eq_true rfl) zf_X0_261 fk_247 dX0_wordingPart_123 ?_
      refine j_iload_n dX0_wordingPart_126 3 rfl ?_
      refine j_bipush dX0_wordingPart_127 (by decide) ?_
      refine j_isub dX0_wordingPart_129 ?_
      obtain ⟨x27, hx27, hf⟩ := ob hf
      refine c_iald hx27 dX0_wordingPart_130 ?_
      replace hf := Option.some.inj hf
      subst hf
      exact j_ireturn (bC_mv G A) ⟨Nat.le_refl 0, Nat.le_refl 0⟩ rfl dX0_wordingPart_131
    replace hf := ie h25 hf
    rcases Decidable.em ((w32 v2) = 8) with h28 | h28
    · replace hf := it h28 hf
      refine j_tabIn (z := 8) 122 dX0_wordingPart_17 h28 ⟨⟨by decide, by decide⟩, rfl⟩ (by decide) ?_
      refine j_aload_n dX0_wordingPart_122 0 rfl ?_
      obtain ⟨x29, hx29, hf⟩ := ob hf
      refine c_getaN (ci := 6) (k := 7) hx29 zcl_6 (Nat.le_of_ble_eq_true rfl) zf_X0_261 fk_247 dX0_wordingPart_123 ?_
      refine j_iload_n dX0_wordingPart_126 3 rfl ?_
      refine j_bipush dX0_wordingPart_127 (by decide) ?_
      refine j_isub dX0_wordingPart_129 ?_
      obtain ⟨x30, hx30, hf⟩ := ob hf
      refine c_iald hx30 dX0_wordingPart_130 ?_
      replace hf := Option.some.inj hf
      subst hf
      exact j_ireturn (bC_mv G A) ⟨Nat.le_refl 0, Nat.le_refl 0⟩ rfl dX0_wordingPart_131
    replace hf := ie h28 hf
    rcases Decidable.em ((w32 v2) = 9) with h31 | h31
    · replace hf := it h31 hf
      refine j_tabIn (z := 9) 122 dX0_wordingPart_17 h31 ⟨⟨by decide, by decide⟩, rfl⟩ (by decide) ?_
      refine j_aload_n dX0_wordingPart_122 0 rfl ?_
      obtain ⟨x32, hx32, hf⟩ := ob hf
      refine c_getaN (ci := 6) (k := 7) hx32 zcl_6 (Nat.le_of_ble_eq_true rfl) zf_X0_261 fk_247 dX0_wordingPart_123 ?_
      refine j_iload_n dX0_wordingPart_126 3 rfl ?_
      refine j_bipush dX0_wordingPart_127 (by decide) ?_
      refine j_isub dX0_wordingPart_129 ?_
      obtain ⟨x33, hx33, hf⟩ := ob hf
      refine c_iald hx33 dX0_wordingPart_130 ?_
      replace hf := Option.some.inj hf
      subst hf
      exact j_ireturn (bC_mv G A) ⟨Nat.le_refl 0, Nat.le_refl 0⟩ rfl dX0_wordingPart_131
    replace hf := ie h31 hf
    refine j_tabOut 132 dX0_wordingPart_17 (by omega) (by decide) ?_
    refine j_bipush dX0_wordingPart_132 (by decide) ?_
    replace hf := Option.some.inj hf
    subst hf
    exact j_ireturn (bC_mv G A) ⟨Nat.le_refl 0, Nat.le_refl 0⟩ rfl dX0_wordingPart_134
  · replace hf := it h34 hf
    refine j_iconst dX0_wordingPart_8 ?_
    replace hf := Option.some.inj hf
    subst hf
    exact j_ireturn (bC_mv G A) ⟨Nat.le_refl 0, Nat.le_refl 0⟩ rfl dX0_wordingPart_9
theorem t0_factPart {G : CG} {A : Nat → Prop} {l : Launch} {r : Int} (v0 : Option Nat) (v1 : Int) (v2 : Int) (v3 : Int) (u : Sg) (hf : f0_factPart G v0 v1 v2 v3 u = some r) : JM kC (bC G A) A l yX0_factPart D0_factPart [pR v0, pI v1, pI v2, pI v3] u (some (pI r)) u 0 0 := by
  refine j_met (lv0 := [(0, pR v0), (1, pI v1), (2, pI v2), (3, pI v3)]) ⟨pl_X0, rfl, rfl, (Nat.le_of_ble_eq_true rfl), rfl⟩ ?_
  unfold f0_factPart at hf
  refine j_aload_n dX0_factPart_0 0 rfl ?_
  refine j_iload_n dX0_factPart_1 1 rfl ?_
  obtain ⟨b1, hb1, hf⟩ := ob hf
  obtain ⟨eb1, tb1⟩ := ztg_s hb1
  obtain ⟨x2, hx2, hf⟩ := ob hf
  refine a_Vr [pI v1] [] (t0_isWording (some b1) v1 u hx2) ⟨q1264, q1266, qs37, q128, q1267⟩ dv0_isWording rfl ⟨(Nat.le_of_ble_eq_true rfl), (Nat.le_of_ble_eq_true rfl)⟩ (c_recv zcl_0 tb1) (by rw [← eb1]; rfl) (Nat.le_of_ble_eq_true rfl) dX0_factPart_2 ⟨Nat.le_refl 0, Nat.le_refl 0⟩ ?_
  refine j_if_eq (w32 x2) rfl 29 dX0_factPart_5 (by decide) (fun h32 => ?_) (fun h32 => ?_)
  · replace hf := it h32 hf
    refine j_iconst dX0_factPart_29 ?_
    replace hf := Option.some.inj hf
    subst hf
    exact j_ireturn (bC_mv G A) ⟨Nat.le_refl 0, Nat.le_refl 0⟩ rfl dX0_factPart_30
  · replace hf := ie h32 hf
    refine j_iload_n dX0_factPart_8 2 rfl ?_
    refine j_if_lt (w32 v2) rfl 29 dX0_factPart_9 (by decide) (fun h31 => ?_) (fun h31 => ?_)
    · replace hf := it h31 hf
      refine j_iconst dX0_factPart_29 ?_
      replace hf := Option.some.inj hf
      subst hf
      exact j_ireturn (bC_mv G A) ⟨Nat.le_refl 0, Nat.le_refl 0⟩ rfl dX0_factPart_30
    · replace hf := ie h31 hf
      refine j_iload_n dX0_factPart_12 2 rfl ?_
      refine j_aload_n dX0_factPart_13 0 rfl ?_
      refine j_iload_n dX0_factPart_14 1 rfl ?_
      obtain ⟨b3, hb3, hf⟩ := ob hf
      obtain ⟨eb3, tb3⟩ := ztg_s hb3
      obtain ⟨x4, hx4, hf⟩ := ob hf
      refine a_Vr [pI v1] [pI v2] (t0_the (some b3) v1 u hx4) ⟨q1268, q1270, qs38, q128, q1271⟩ dv0_the rfl ⟨(Nat.le_of_ble_eq_true rfl), (Nat.le_of_ble_eq_true rfl)⟩ (c_recv zcl_0 tb3) (by rw [← eb3]; rfl) (Nat.le_of_ble_eq_true rfl) dX0_factPart_15 ⟨Nat.le_refl 0, Nat.le_refl 0⟩ ?_
      obtain ⟨x5, hx5, hf⟩ := ob hf
      refine c_getaN (ci := 6) (k := 0) hx5 zcl_6 (Nat.le_of_ble_eq_true rfl) zf_X0_240 fk_240 dX0_factPart_18 ?_
      obtain ⟨b6, hb6, hf⟩ := ob hf
      obtain ⟨eb6, tb6⟩ := ztg_s hb6
      obtain ⟨x7, hx7, hf⟩ := ob hf
      refine a_Fr (x := ix_0) [] [pI v2] (tJ2_size (some b6) u hx7) ⟨q556, q559, q561, q131, q563⟩ iF_0 df_0 rfl ⟨(Nat.le_of_ble_eq_true rfl), (Nat.le_of_ble_eq_true rfl)⟩ zcl_5 rfl tb6 (by rw [← eb6]; rfl) (Nat.le_of_ble_eq_true rfl) dX0_factPart_21 ⟨Nat.le_refl 0, Nat.le_refl 0⟩ ?_
      refine j_icmp_lt (w32 v2) (w32 x7) rfl rfl 31 dX0_factPart_26 (by decide) (fun h30 => ?_) (fun h30 => ?_)
      · replace hf := it h30 hf
        refine j_aload_n dX0_factPart_31 0 rfl ?_
        refine j_iload_n dX0_factPart_32 1 rfl ?_
        obtain ⟨b8, hb8, hf⟩ := ob hf
        obtain ⟨eb8, tb8⟩ := ztg_s hb8
        obtain ⟨x9, hx9, hf⟩ := ob hf
        refine a_Vr [pI v1] [] (t0_the (some b8) v1 u hx9) ⟨q1268, q1270, qs38, q128, q1271⟩ dv0_the rfl ⟨(Nat.le_of_ble_eq_true rfl), (Nat.le_of_ble_eq_true rfl)⟩ (c_recv zcl_0 tb8) (by rw [← eb8]; rfl) (Nat.le_of_ble_eq_true rfl) dX0_factPart_33 ⟨Nat.le_refl 0, Nat.le_refl 0⟩ ?_
        obtain ⟨x10, hx10, hf⟩ := ob hf
        refine c_getaN (ci := 6) (k := 0) hx10 zcl_6 (Nat.le_of_ble_eq_true rfl) zf_X0_240 fk_240 dX0_factPart_36 ?_
        refine j_iload_n dX0_factPart_39 2 rfl ?_
        obtain ⟨b11, hb11, hf⟩ := ob hf
        obtain ⟨eb11, tb11⟩ := ztg_s hb11
        obtain ⟨x12, hx12, hf⟩ := ob hf
        refine a_Fr (x := ix_1) [pI v2] [] (tJ2_get (some b11) v2 u hx12) ⟨q1273, q813, q815, q131, q817⟩ iF_1 df_1 rfl ⟨(Nat.le_of_ble_eq_true rfl), (Nat.le_of_ble_eq_true rfl)⟩ zcl_5 rfl tb11 (by rw [← eb11]; rfl) (Nat.le_of_ble_eq_true rfl) dX0_factPart_40 ⟨Nat.le_refl 0, Nat.le_refl 0⟩ ?_
        obtain ⟨y13, hy13, hf⟩ := ob hf
        refine c_cast hy13 zok_Fact q1340 dX0_factPart_45 ?_
        refine j_astore dX0_factPart_48 [(4, pR x12), (0, pR v0), (1, pI v1), (2, pI v2), (3, pI v3)] (Nat.le_of_ble_eq_true rfl) rfl ?_
        refine j_iload_n dX0_factPart_50 4 rfl ?_
        rcases Decidable.em ((w32 v3) = 0) with h14 | h14
        · replace hf := it h14 hf
          refine j_tabIn (z := 0) 84 dX0_factPart_51 h14 ⟨⟨by decide, by decide⟩, rfl⟩ (by decide) ?_
          refine j_aload dX0_factPart_84 0 rfl ?_
          obtain ⟨x15, hx15, hf⟩ := ob hf
          refine c_getiN (ci := 9) (k := 1) hx15 zcl_9 (Nat.le_of_ble_eq_true rfl) zf_X0_266 fk_361 dX0_factPart_86 ?_
          replace hf := Option.some.inj hf
          subst hf
          exact j_ireturn (bC_mv G A) ⟨Nat.le_refl 0, Nat.le_refl 0⟩ rfl dX0_factPart_89
        replace hf := ie h14 hf
        rcases Decidable.em ((w32 v3) = 1) with h16 | h16
        · replace hf := it h16 hf
          refine j_tabIn (z := 1) 90 dX0_factPart_51 h16 ⟨⟨by decide, by decide⟩, rfl⟩ (by decide) ?_
          refine j_aload dX0_factPart_90 0 rfl ?_
          obtain ⟨x17, hx17, hf⟩ := ob hf
          refine c_getiN (ci := 9) (k := 3) hx17 zcl_9 (Nat.le_of_ble_eq_true rfl) zf_X0_267 fk_363 dX0_factPart_92 ?_
          replace hf := Option.some.inj hf
          subst hf
          exact j_ireturn (bC_mv G A) ⟨Nat.le_refl 0, Nat.le_refl 0⟩ rfl dX0_factPart_95
        replace hf := ie h16 hf
        rcases Decidable.em ((w32 v3) = 2) with h18 | h18
        · replace hf := it h18 hf
          refine j_tabIn (z := 2) 96 dX0_factPart_51 h18 ⟨⟨by decide, by decide⟩, rfl⟩ (by decide) ?_
          refine j_aload dX0_factPart_96 0 rfl ?_
          obtain ⟨x19, hx19, hf⟩ := ob hf
          refine c_getiN (ci := 9) (k := 4) hx19 zcl_9 (Nat.le_of_ble_eq_true rfl) zf_X0_270 fk_364 dX0_factPart_98 ?_
          replace hf := Option.some.inj hf
          subst hf
          exact j_ireturn (bC_mv G A) ⟨Nat.le_refl 0, Nat.le_refl 0⟩ rfl dX0_factPart_101
        replace hf := ie h18 hf
        rcases Decidable.em ((w32 v3) = 3) with h20 | h20
        · replace hf := it h20 hf
          refine j_tabIn (z := 3) 102 dX0_factPart_51 h20 ⟨⟨by decide, by decide⟩, rfl⟩ (by decide) ?_
          refine j_aload dX0_factPart_102 0 rfl ?_
          obtain ⟨x21, hx21, hf⟩ := ob hf
          refine c_getiN (ci := 9) (k := 5) hx21 zcl_9 (Nat.le_of_ble_eq_true rfl) zf_X0_273 fk_365 dX0_factPart_104 ?_
          replace hf := Option.some.inj hf
          subst hf
          exact j_ireturn (bC_mv G A) ⟨Nat.le_refl 0, Nat.le_refl 0⟩ rfl dX0_factPart_107
        replace hf := ie h20 hf
        rcases Decidable.em ((w32 v3) = 4) with h22 | h22
        · replace hf := it h22 hf
          refine j_tabIn (z := 4) 108 dX0_factPart_51 h22 ⟨⟨by decide, by decide⟩, rfl⟩ (by decide) ?_
          refine j_aload_n dX0_factPart_108 1 rfl ?_
          refine j_iload_n dX0_factPart_109 2 rfl ?_
          obtain ⟨b23, hb23, hf⟩ := ob hf
          obtain ⟨eb23, tb23⟩ := ztg_s hb23
          obtain ⟨x24, hx24, hf⟩ := ob hf
          refine a_Vr [pI v1] [] (t0_the (some b23) v1 u hx24) ⟨q1268, q1270, qs38, q128, q1271⟩ dv0_the rfl ⟨(Nat.le_of_ble_eq_true rfl), (Nat.le_of_ble_eq_true rfl)⟩ (c_recv zcl_0 tb23) (by rw [← eb23]; rfl) (Nat.le_of_ble_eq_true rfl) dX0_factPart_110 ⟨Nat.le_refl 0, Nat.le_refl 0⟩ ?_
          obtain ⟨x25, hx25, hf⟩ := ob hf
          refine c_getaN (ci := 6) (k := 10) hx25 zcl_6 (Nat.le_of_ble_eq_true rfl) zf_X0_276 fk_250 dX0_factPart_113 ?_
          refine j_iload_n dX0_factPart_116 3 rfl ?_
          obtain ⟨b26, hb26, hf⟩ := ob hf
          obtain ⟨eb26, tb26⟩ := ztg_s hb26
          obtain ⟨x27, hx27, hf⟩ := ob hf
          refine a_Fr (x := ix_1) [pI v2] [] (tJ2_get (some b26) v2 u hx27) ⟨q1273, q813, q815, q131, q817⟩ iF_1 df_1 rfl ⟨(Nat.le_of_ble_eq_true rfl), (Nat.le_of_ble_eq_true rfl)⟩ zcl_5 rfl tb26 (by rw [← eb26]; rfl) (Nat.le_of_ble_eq_true rfl) dX0_factPart_117 ⟨Nat.le_refl 0, Nat.le_refl 0⟩ ?_
          obtain ⟨y28, hy28, hf⟩ := ob hf
          refine c_cast hy28 zok_Starts q1341 dX0_factPart_122 ?_
          obtain ⟨x29, hx29, hf⟩ := ob hf
          refine c_getiN (ci := 4) (k := 1) hx29 zcl_4 (Nat.le_of_ble_eq_true rfl) zf_X0_279 fk_161 dX0_factPart_125 ?_
          replace hf := Option.some.inj hf
          subst hf
          exact j_ireturn (bC_mv G A) ⟨Nat.le_refl 0, Nat.le_refl 0⟩ rfl dX0_factPart_128
        replace hf := ie h22 hf
        refine j_tabOut 129 dX0_factPart_51 (by omega) (by decide) ?_
        refine j_bipush dX0_factPart_129 (by decide) ?_
        replace hf := Option.some.inj hf
        subst hf
        exact j_ireturn (bC_mv G A) ⟨Nat.le_refl 0, Nat.le_refl 0⟩ rfl dX0_factPart_131
      · replace hf := ie h30 hf
        refine j_iconst dX0_factPart_29 ?_
        replace hf := Option.some.inj hf
        subst hf
        exact j_ireturn (bC_mv G A) ⟨Nat.le_refl 0, Nat.le_refl 0⟩ rfl dX0_factPart_30
theorem t0_clause {G : CG} {A : Nat → Prop} {l : Launch} {r : Int} (v0 : Option Nat) (v1 : Int) (v2 : Int) (u : Sg) (hf : f0_clause G v0 v1 v2 u = some r) : JM kC (bC G A) A l yX0_clause D0_clause [pR v0, pI v1, pI v2] u (some (pI r)) u 0 0 := by
  refine j_met (lv0 := [(0, pR v0), (1, pI v1), (2, pI v2)]) ⟨pl_X0, rfl, rfl, (Nat.le_of_ble_eq_true rfl), rfl⟩ ?_
  unfold f0_clause at hf
  refine j_aload_n dX0_clause_0 0 rfl ?_
  refine j_iload_n dX0_clause_1 1 rfl ?_
  obtain ⟨b1, hb1, hf⟩ := ob hf
  obtain ⟨eb1, tb1⟩ := ztg_s hb1
  obtain ⟨x2, hx2, hf⟩ := ob hf
  refine a_Vr [pI v1] [] (t0_isWording (some b1) v1 u hx2) ⟨q1264, q1266, qs37, q128, q1267⟩ dv0_isWording rfl ⟨(Nat.le_of_ble_eq_true rfl), (Nat.le_of_ble_eq_true rfl)⟩ (c_recv zcl_0 tb1) (by rw [← eb1]; rfl) (Nat.le_of_ble_eq_true rfl) dX0_clause_2 ⟨Nat.le_refl 0, Nat.le_refl 0⟩ ?_
  refine j_if_eq (w32 x2) rfl 30 dX0_clause_5 (by decide) (fun h17 => ?_) (fun h17 => ?_)
  · replace hf := it h17 hf
    refine j_iconst dX0_clause_30 ?_
    refine j_goto 56 dX0_clause_31 (by decide) ?_
    replace hf := Option.some.inj hf
    subst hf
    exact j_ireturn (bC_mv G A) ⟨Nat.le_refl 0, Nat.le_refl 0⟩ rfl dX0_clause_56
  · replace hf := ie h17 hf
    refine j_iload_n dX0_clause_8 2 rfl ?_
    refine j_iconst dX0_clause_9 ?_
    refine j_icmp_lt (w32 v2) 1 rfl rfl 30 dX0_clause_10 (by decide) (fun h16 => ?_) (fun h16 => ?_)
    · replace hf := it h16 hf
      refine j_iconst dX0_clause_30 ?_
      refine j_goto 56 dX0_clause_31 (by decide) ?_
      replace hf := Option.some.inj hf
      subst hf
      exact j_ireturn (bC_mv G A) ⟨Nat.le_refl 0, Nat.le_refl 0⟩ rfl dX0_clause_56
    · replace hf := ie h16 hf
      refine j_iload_n dX0_clause_13 2 rfl ?_
      refine j_aload_n dX0_clause_14 0 rfl ?_
      refine j_iload_n dX0_clause_15 1 rfl ?_
      obtain ⟨b3, hb3, hf⟩ := ob hf
      obtain ⟨eb3, tb3⟩ := ztg_s hb3
      obtain ⟨x4, hx4, hf⟩ := ob hf
      refine a_Vr [pI v1] [pI v2] (t0_the (some b3) v1 u hx4) ⟨q1268, q1270, qs38, q128, q1271⟩ dv0_the rfl ⟨(Nat.le_of_ble_eq_true rfl), (Nat.le_of_ble_eq_true rfl)⟩ (c_recv zcl_0 tb3) (by rw [← eb3]; rfl) (Nat.le_of_ble_eq_true rfl) dX0_clause_16 ⟨Nat.le_refl 0, Nat.le_refl 0⟩ ?_
      obtain ⟨x5, hx5, hf⟩ := ob hf
      refine c_getaN (ci := 6) (k := 3) hx5 zcl_6 (Nat.le_of_ble_eq_true rfl) zf_X0_243 fk_243 dX0_clause_19 ?_
      obtain ⟨b6, hb6, hf⟩ := ob hf
      obtain ⟨eb6, tb6⟩ := ztg_s hb6
      obtain ⟨x7, hx7, hf⟩ := ob hf
      refine a_Fr (x := ix_0) [] [pI v2] (tJ2_size (some b6) u hx7) ⟨q556, q559, q561, q131, q563⟩ iF_0 df_0 rfl ⟨(Nat.le_of_ble_eq_true rfl), (Nat.le_of_ble_eq_true rfl)⟩ zcl_5 rfl tb6 (by rw [← eb6]; rfl) (Nat.le_of_ble_eq_true rfl) dX0_clause_22 ⟨Nat.le_refl 0, Nat.le_refl 0⟩ ?_
      refine j_icmp_le (w32 v2) (w32 x7) rfl rfl 34 dX0_clause_27 (by decide) (fun h15 => ?_) (fun h15 => ?_)
      · replace hf := it h15 hf
        refine j_aload_n dX0_clause_34 0 rfl ?_
        refine j_iload_n dX0_clause_35 1 rfl ?_
        obtain ⟨b8, hb8, hf⟩ := ob hf
        obtain ⟨eb8, tb8⟩ := ztg_s hb8
        obtain ⟨x9, hx9, hf⟩ := ob hf
        refine a_Vr [pI v1] [] (t0_the (some b8) v1 u hx9) ⟨q1268, q1270, qs38, q128, q1271⟩ dv0_the rfl ⟨(Nat.le_of_ble_eq_true rfl), (Nat.le_of_ble_eq_true rfl)⟩ (c_recv zcl_0 tb8) (by rw [← eb8]; rfl) (Nat.le_of_ble_eq_true rfl) dX0_clause_36 ⟨Nat.le_refl 0, Nat.le_refl 0⟩ ?_
        obtain ⟨x10, hx10, hf⟩ := ob hf
        refine c_getaN (ci := 6) (k := 3) hx10 zcl_6 (Nat.le_of_ble_eq_true rfl) zf_X0_243 fk_243 dX0_clause_39 ?_
        refine j_iload_n dX0_clause_42 2 rfl ?_
        refine j_iconst dX0_clause_43 ?_
        refine j_isub dX0_clause_44 ?_
        obtain ⟨b11, hb11, hf⟩ := ob hf
        obtain ⟨eb11, tb11⟩ := ztg_s hb11
        obtain ⟨x12, hx12, hf⟩ := ob hf
        refine a_Fr (x := ix_1) [pI (v2 - 1)] [] (tJ2_get (some b11) (v2 - 1) u hx12) ⟨q1273, q813, q815, q131, q817⟩ iF_1 df_1 rfl ⟨(Nat.le_of_ble_eq_true rfl), (Nat.le_of_ble_eq_true rfl)⟩ zcl_5 rfl tb11 (by rw [← eb11]; rfl) (Nat.le_of_ble_eq_true rfl) dX0_clause_45 ⟨Nat.le_refl 0, Nat.le_refl 0⟩ ?_
        obtain ⟨y13, hy13, hf⟩ := ob hf
        refine c_cast hy13 zok_Clause q1346 dX0_clause_50 ?_
        obtain ⟨x14, hx14, hf⟩ := ob hf
        refine c_getiN (ci := 16) (k := 0) hx14 zcl_16 (Nat.le_of_ble_eq_true rfl) zf_X0_283 fk_640 dX0_clause_53 ?_
        replace hf := Option.some.inj hf
        subst hf
        exact j_ireturn (bC_mv G A) ⟨Nat.le_refl 0, Nat.le_refl 0⟩ rfl dX0_clause_56
      · replace hf := ie h15 hf
        refine j_iconst dX0_clause_30 ?_
        refine j_goto 56 dX0_clause_31 (by decide) ?_
        replace hf := Option.some.inj hf
        subst hf
        exact j_ireturn (bC_mv G A) ⟨Nat.le_refl 0, Nat.le_refl 0⟩ rfl dX0_clause_56
theorem t3_keep_l19 {G : CG} {A : Nat → Prop} {l : Launch} {a : List PV} {r : Sg} {Kf : Sg → Option (Sg)} (v0 : Option Nat) (v1 : Int) (hK0 : ∀ q : Sg, Kf q = some r → JW kC (bC G A) A l D3_keep a (jQ (bC G A) A a none r 0 0) 0 0 q 0 0 56 [] []) : ∀ (n : Nat) (v2 : Int) (u : Sg), ((f3_keep_l19 G v0 v1 n v2 u).bind Kf = some r) → JW kC (bC G A) A l D3_keep a (jQ (bC G A) A a none r 0 0) 0 0 u 0 0 19 [(0, pR v0), (1, pI v1), (2, pI v2)] [] := by
  intro n
  induction n with
  | zero => intro v2 u hf; exact onb hf
  | succ n ih =>
    intro v2 u hf
    unfold f3_keep_l19 at hf
    refine j_iload_n dX3_keep_19 2 rfl ?_
    refine j_aload_n dX3_keep_20 0 rfl ?_
    obtain ⟨x1, hx1, hf⟩ := obb hf
    refine c_geti (ci := 3) (k := 1) hx1 zcl_3 (Nat.le_of_ble_eq_true rfl) zf_X3_53 fk_121 dX3_keep_21 ?_
    refine j_icmp_ge (w32 v2) (w32 x1) rfl rfl 56 dX3_keep_24 (by decide) (fun h8 => ?_) (fun h8 => ?_)
    · replace hf := itb h8 hf
      exact j_sub [] _ rfl (hK0 u hf)
    · replace hf := ieb h8 hf
      refine j_aload_n dX3_keep_27 0 rfl ?_
      obtain ⟨x2, hx2, hf⟩ := obb hf
      refine c_geta (ci := 3) (k := 3) hx2 zcl_3 (Nat.le_of_ble_eq_true rfl) zf_X3_22 fk_123 dX3_keep_28 ?_
      refine j_bipush dX3_keep_31 (by decide) ?_
      refine j_iload_n dX3_keep_33 1 rfl ?_
      refine j_imul dX3_keep_34 ?_
      refine j_iload_n dX3_keep_35 2 rfl ?_
      refine j_iadd dX3_keep_36 ?_
      refine j_aload_n dX3_keep_37 0 rfl ?_
      obtain ⟨x3, hx3, hf⟩ := obb hf
      refine c_geta (ci := 3) (k := 9) hx3 zcl_3 (Nat.le_of_ble_eq_true rfl) zf_X3_3 fk_129 dX3_keep_38 ?_
      obtain ⟨x4, hx4, hf⟩ := obb hf
      refine c_getaN (ci := 0) (k := 13) hx4 zcl_0 (Nat.le_of_ble_eq_true rfl) zf_X3_89 fk_13 dX3_keep_41 ?_
      obtain ⟨x5, hx5, hf⟩ := obb hf
      refine c_getaN (ci := 1) (k := 0) hx5 zcl_1 (Nat.le_of_ble_eq_true rfl) zf_X3_93 fk_40 dX3_keep_44 ?_
      refine j_iload_n dX3_keep_47 2 rfl ?_
      obtain ⟨x6, hx6, hf⟩ := obb hf
      refine c_iald hx6 dX3_keep_48 ?_
      obtain ⟨u7, hu7, hf⟩ := obb hf
      refine c_iast hu7 dX3_keep_49 ?_
      refine j_iinc dX3_keep_50 2 rfl [(2, pI (v2 + 1)), (0, pR v0), (1, pI v1)] (Nat.le_of_ble_eq_true rfl) rfl ?_
      refine j_goto 19 dX3_keep_53 (by decide) ?_
      exact j_sub [1, 2, 0] _ rfl (ih (v2 + 1) u7 hf)
theorem t3_keep {G : CG} {A : Nat → Prop} {l : Launch} {r : Sg} (v0 : Option Nat) (v1 : Int) (u : Sg) (hf : f3_keep G v0 v1 u = some r) : JM kC (bC G A) A l yX3_keep D3_keep [pR v0, pI v1] u none r 0 0 := by
  refine j_met (lv0 := [(0, pR v0), (1, pI v1)]) ⟨pl_X3, rfl, rfl, (Nat.le_of_ble_eq_true rfl), rfl⟩ ?_
  unfold f3_keep at hf
  refine j_aload_n dX3_keep_0 0 rfl ?_
  obtain ⟨x1, hx1, hf⟩ := ob hf
  refine c_geta (ci := 3) (k := 4) hx1 zcl_3 (Nat.le_of_ble_eq_true rfl) zf_X3_26 fk_124 dX3_keep_1 ?_
  refine j_iload_n dX3_keep_4 1 rfl ?_
  obtain ⟨x2, hx2, hf⟩ := ob hf
  refine c_zald hx2 dX3_keep_5 ?_
  refine j_if_eq (w32 x2) rfl 10 dX3_keep_6 (by decide) (fun h6 => ?_) (fun h6 => ?_)
  · replace hf := it h6 hf
    refine j_aload_n dX3_keep_10 0 rfl ?_
    obtain ⟨x3, hx3, hf⟩ := ob hf
    refine c_geta (ci := 3) (k := 4) hx3 zcl_3 (Nat.le_of_ble_eq_true rfl) zf_X3_26 fk_124 dX3_keep_11 ?_
    refine j_iload_n dX3_keep_14 1 rfl ?_
    refine j_iconst dX3_keep_15 ?_
    obtain ⟨u4, hu4, hf⟩ := ob hf
    refine c_zast hu4 dX3_keep_16 ?_
    refine j_iconst dX3_keep_17 ?_
    refine j_istore_n dX3_keep_18 [(2, pI 0), (0, pR v0), (1, pI v1)] (Nat.le_of_ble_eq_true rfl) rfl ?_
    refine j_sub [1, 2, 0] _ rfl (t3_keep_l19 v0 v1 ?_ NN 0 u4 hf)
    · intro q5 hf
      replace hf := Option.some.inj hf
      subst hf
      exact j_return (bC_mv G A) ⟨Nat.le_refl 0, Nat.le_refl 0⟩ rfl dX3_keep_56
  · replace hf := ie h6 hf
    replace hf := Option.some.inj hf
    subst hf
    exact j_return (bC_mv G A) ⟨Nat.le_refl 0, Nat.le_refl 0⟩ rfl dX3_keep_9
theorem t3_way_l9 {G : CG} {A : Nat → Prop} {l : Launch} {a : List PV} {r : Sg} {Kf : Sg → Option (Sg)} (v0 : Option Nat) (hK0 : ∀ q : Sg, Kf q = some r → JW kC (bC G A) A l D3_way a (jQ (bC G A) A a none r 0 0) 0 0 q 0 0 67 [] []) : ∀ (n : Nat) (v2 : Int) (v3 : Int) (u : Sg), ((f3_way_l9 G v0 n v2 v3 u).bind Kf = some r) → JW kC (bC G A) A l D3_way a (jQ (bC G A) A a none r 0 0) 0 0 u 0 0 9 [(0, pR v0), (2, pI v2), (3, pI v3)] [] := by
  intro n
  induction n with
  | zero => intro v2 v3 u hf; exact onb hf
  | succ n ih =>
    intro v2 v3 u hf
    unfold f3_way_l9 at hf
    refine j_iload_n dX3_way_9 2 rfl ?_
    refine j_if_lt (w32 v3) rfl 67 dX3_way_10 (by decide) (fun h15 => ?_) (fun h15 => ?_)
    · replace hf := itb h15 hf
      exact j_sub [] _ rfl (hK0 u hf)
    · replace hf := ieb h15 hf
      refine j_aload_n dX3_way_13 0 rfl ?_
      obtain ⟨x1, hx1, hf⟩ := obb hf
      refine c_geta (ci := 3) (k := 0) hx1 zcl_3 (Nat.le_of_ble_eq_true rfl) zf_X3_18 fk_120 dX3_way_14 ?_
      refine j_iload_n dX3_way_17 2 rfl ?_
      obtain ⟨b2, hb2, hf⟩ := obb hf
      obtain ⟨eb2, tb2⟩ := ztg_s hb2
      obtain ⟨x3, hx3, hf⟩ := obb hf
      refine a_Fr (x := ix_1) [pI v3] [] (tJ2_get (some b2) v3 u hx3) ⟨q1366, q813, q815, q131, q817⟩ iF_1 df_1 rfl ⟨(Nat.le_of_ble_eq_true rfl), (Nat.le_of_ble_eq_true rfl)⟩ zcl_5 rfl tb2 (by rw [← eb2]; rfl) (Nat.le_of_ble_eq_true rfl) dX3_way_18 ⟨Nat.le_refl 0, Nat.le_refl 0⟩ ?_
      obtain ⟨y4, hy4, hf⟩ := obb hf
      refine c_cast hy4 zok_Starts q298 dX3_way_23 ?_
      refine j_astore dX3_way_26 [(4, pR x3), (0, pR v0), (2, pI v2), (3, pI v3)] (Nat.le_of_ble_eq_true rfl) rfl ?_
      refine j_aload_n dX3_way_28 1 rfl ?_
      obtain ⟨x5, hx5, hf⟩ := obb hf
      refine c_geta (ci := 3) (k := 9) hx5 zcl_3 (Nat.le_of_ble_eq_true rfl) zf_X3_3 fk_129 dX3_way_29 ?_
      obtain ⟨x6, hx6, hf⟩ := obb hf
      refine c_getaN (ci := 0) (k := 13) hx6 zcl_0 (Nat.le_of_ble_eq_true rfl) zf_X3_89 fk_13 dX3_way_32 ?_
      obtain ⟨x7, hx7, hf⟩ := obb hf
      refine c_getaN (ci := 1) (k := 0) hx7 zcl_1 (Nat.le_of_ble_eq_true rfl) zf_X3_93 fk_40 dX3_way_35 ?_
      refine j_iload_n dX3_way_38 3 rfl ?_
      refine j_aload dX3_way_39 0 rfl ?_
      obtain ⟨x8, hx8, hf⟩ := obb hf
      refine c_getaN (ci := 4) (k := 0) hx8 zcl_4 (Nat.le_of_ble_eq_true rfl) zf_X3_98 fk_160 dX3_way_41 ?_
      refine j_iload_n dX3_way_44 2 rfl ?_
      refine j_aload dX3_way_45 0 rfl ?_
      obtain ⟨x9, hx9, hf⟩ := obb hf
      refine c_getiN (ci := 4) (k := 1) hx9 zcl_4 (Nat.le_of_ble_eq_true rfl) zf_X3_77 fk_161 dX3_way_47 ?_
      rcases Decidable.em (w32 x9 = 0) with h10 | h10
      · exact onb (itb h10 hf)
      · replace hf := ieb h10 hf
        refine j_irem dX3_way_50 h10 ?_
        obtain ⟨x11, hx11, hf⟩ := obb hf
        refine c_iald hx11 dX3_way_51 ?_
        obtain ⟨u12, hu12, hf⟩ := obb hf
        refine c_iast hu12 dX3_way_52 ?_
        refine j_iload_n dX3_way_53 2 rfl ?_
        refine j_aload dX3_way_54 0 rfl ?_
        obtain ⟨x13, hx13, hf⟩ := obb hf
        refine c_getiN (ci := 4) (k := 1) hx13 zcl_4 (Nat.le_of_ble_eq_true rfl) zf_X3_77 fk_161 dX3_way_56 ?_
        rcases Decidable.em (w32 x13 = 0) with h14 | h14
        · exact onb (itb h14 hf)
        · replace hf := ieb h14 hf
          refine j_idiv dX3_way_59 h14 ?_
          refine j_istore_n dX3_way_60 [(2, pI (div32 v2 x13)), (4, pR x3), (0, pR v0), (3, pI v3)] (Nat.le_of_ble_eq_true rfl) rfl ?_
          refine j_iinc dX3_way_61 3 rfl [(3, pI (v3 + (-1))), (2, pI (div32 v2 x13)), (4, pR x3), (0, pR v0)] (Nat.le_of_ble_eq_true rfl) rfl ?_
          refine j_goto 9 dX3_way_64 (by decide) ?_
          exact j_sub [3, 1, 0] _ rfl (ih (div32 v2 x13) (v3 + (-1)) u12 hf)
theorem t3_way {G : CG} {A : Nat → Prop} {l : Launch} {r : Sg} (v0 : Option Nat) (v1 : Int) (u : Sg) (hf : f3_way G v0 v1 u = some r) : JM kC (bC G A) A l yX3_way D3_way [pR v0, pI v1] u none r 0 0 := by
  refine j_met (lv0 := [(0, pR v0), (1, pI v1)]) ⟨pl_X3, rfl, rfl, (Nat.le_of_ble_eq_true rfl), rfl⟩ ?_
  unfold f3_way at hf
  refine j_iload_n dX3_way_0 1 rfl ?_
  refine j_istore_n dX3_way_1 [(2, pI v1), (0, pR v0), (1, pI v1)] (Nat.le_of_ble_eq_true rfl) rfl ?_
  refine j_aload_n dX3_way_2 1 rfl ?_
  obtain ⟨x1, hx1, hf⟩ := ob hf
  refine c_geti (ci := 3) (k := 1) hx1 zcl_3 (Nat.le_of_ble_eq_true rfl) zf_X3_53 fk_121 dX3_way_3 ?_
  refine j_iconst dX3_way_6 ?_
  refine j_isub dX3_way_7 ?_
  refine j_istore_n dX3_way_8 [(3, pI (x1 - 1)), (2, pI v1), (0, pR v0), (1, pI v1)] (Nat.le_of_ble_eq_true rfl) rfl ?_
  refine j_sub [2, 1, 0] _ rfl (t3_way_l9 v0 ?_ NN v1 (x1 - 1) u hf)
  · intro q2 hf
    replace hf := Option.some.inj hf
    subst hf
    exact j_return (bC_mv G A) ⟨Nat.le_refl 0, Nat.le_refl 0⟩ rfl dX3_way_67
theorem t4_cell_l7 {G : CG} {A : Nat → Prop} {l : Launch} {a : List PV} {r : Int} {Kf : Int → Option (Int)} (v0 : Option Nat) (v1 : Int) (u : Sg) (hK0 : ∀ q : Int, Kf q = some r → JW kC (bC G A) A l D4_cell a (jQ (bC G A) A a (some (pI r)) u 0 0) 0 0 u 0 0 23 [(2, pI q)] []) : ∀ (n : Nat) (v2 : Int), ((f4_cell_l7 G v0 v1 u n v2).bind Kf = some r) → JW kC (bC G A) A l D4_cell a (jQ (bC G A) A a (some (pI r)) u 0 0) 0 0 u 0 0 7 [(0, pR v0), (1, pI v1), (2, pI v2)] [] := by
  intro n
  induction n with
  | zero => intro v2 hf; exact onb hf
  | succ n ih =>
    intro v2 hf
    unfold f4_cell_l7 at hf
    refine j_aload_n dX4_cell_7 0 rfl ?_
    obtain ⟨x1, hx1, hf⟩ := obb hf
    refine c_geta (ci := 4) (k := 0) hx1 zcl_4 (Nat.le_of_ble_eq_true rfl) zf_X4_9 fk_160 dX4_cell_8 ?_
    refine j_iload_n dX4_cell_11 2 rfl ?_
    obtain ⟨x2, hx2, hf⟩ := obb hf
    refine c_iald hx2 dX4_cell_12 ?_
    refine j_iload_n dX4_cell_13 1 rfl ?_
    refine j_icmp_le (w32 x2) (w32 v1) rfl rfl 23 dX4_cell_14 (by decide) (fun h3 => ?_) (fun h3 => ?_)
    · replace hf := itb h3 hf
      exact j_sub [2] _ rfl (hK0 v2 hf)
    · replace hf := ieb h3 hf
      refine j_iinc dX4_cell_17 2 rfl [(2, pI (v2 + (-1))), (0, pR v0), (1, pI v1)] (Nat.le_of_ble_eq_true rfl) rfl ?_
      refine j_goto 7 dX4_cell_20 (by decide) ?_
      exact j_sub [1, 2, 0] _ rfl (ih (v2 + (-1)) hf)
theorem t4_cell {G : CG} {A : Nat → Prop} {l : Launch} {r : Int} (v0 : Option Nat) (v1 : Int) (u : Sg) (hf : f4_cell G v0 v1 u = some r) : JM kC (bC G A) A l yX4_cell D4_cell [pR v0, pI v1] u (some (pI r)) u 0 0 := by
  refine j_met (lv0 := [(0, pR v0), (1, pI v1)]) ⟨pl_X4, rfl, rfl, (Nat.le_of_ble_eq_true rfl), rfl⟩ ?_
  unfold f4_cell at hf
  refine j_aload_n dX4_cell_0 0 rfl ?_
  obtain ⟨x1, hx1, hf⟩ := ob hf
  refine c_geti (ci := 4) (k := 1) hx1 zcl_4 (Nat.le_of_ble_eq_true rfl) zf_X4_15 fk_161 dX4_cell_1 ?_
  refine j_iconst dX4_cell_4 ?_
  refine j_isub dX4_cell_5 ?_
  refine j_istore_n dX4_cell_6 [(2, pI (x1 - 1)), (0, pR v0), (1, pI v1)] (Nat.le_of_ble_eq_true rfl) rfl ?_
  refine j_sub [1, 2, 0] _ rfl (t4_cell_l7 v0 v1 u ?_ NN (x1 - 1) hf)
  · intro q2 hf
    refine j_iload_n dX4_cell_23 0 rfl ?_
    replace hf := Option.some.inj hf
    subst hf
    exact j_ireturn (bC_mv G A) ⟨Nat.le_refl 0, Nat.le_refl 0⟩ rfl dX4_cell_24
theorem t6_number_l4 {G : CG} {A : Nat → Prop} {l : Launch} {a : List PV} {r : Int} {Kf : Int → Option (Int)} (v0 : Option Nat) (v1 : Option Nat) (u : Sg) (hK0 : ∀ q : Int, Kf q = some r → JW kC (bC G A) A l D6_number a (jQ (bC G A) A a (some (pI r)) u 0 0) 0 0 u 0 0 65 [(2, pI q)] []) : ∀ (n : Nat) (v2 : Int) (v3 : Int), ((f6_number_l4 G v0 v1 u n v2 v3).bind Kf = some r) → JW kC (bC G A) A l D6_number a (jQ (bC G A) A a (some (pI r)) u 0 0) 0 0 u 0 0 4 [(0, pR v0), (1, pR v1), (2, pI v2), (3, pI v3)] [] := by
  intro n
  induction n with
  | zero => intro v2 v3 hf; exact onb hf
  | succ n ih =>
    intro v2 v3 hf
    unfold f6_number_l4 at hf
    refine j_iload_n dX6_number_4 3 rfl ?_
    refine j_aload_n dX6_number_5 0 rfl ?_
    obtain ⟨x1, hx1, hf⟩ := obb hf
    refine c_geta (ci := 6) (k := 0) hx1 zcl_6 (Nat.le_of_ble_eq_true rfl) zf_X6_12 fk_240 dX6_number_6 ?_
    obtain ⟨b2, hb2, hf⟩ := obb hf
    obtain ⟨eb2, tb2⟩ := ztg_s hb2
    obtain ⟨x3, hx3, hf⟩ := obb hf
    refine a_Fr (x := ix_0) [] [pI v3] (tJ2_size (some b2) u hx3) ⟨q808, q559, q561, q131, q563⟩ iF_0 df_0 rfl ⟨(Nat.le_of_ble_eq_true rfl), (Nat.le_of_ble_eq_true rfl)⟩ zcl_5 rfl tb2 (by rw [← eb2]; rfl) (Nat.le_of_ble_eq_true rfl) dX6_number_9 ⟨Nat.le_refl 0, Nat.le_refl 0⟩ ?_
    refine j_icmp_ge (w32 v3) (w32 x3) rfl rfl 65 dX6_number_14 (by decide) (fun h17 => ?_) (fun h17 => ?_)
    · replace hf := itb h17 hf
      exact j_sub [2] _ rfl (hK0 v2 hf)
    · replace hf := ieb h17 hf
      refine j_iload_n dX6_number_17 2 rfl ?_
      refine j_aload_n dX6_number_18 0 rfl ?_
      obtain ⟨x4, hx4, hf⟩ := obb hf
      refine c_geta (ci := 6) (k := 10) hx4 zcl_6 (Nat.le_of_ble_eq_true rfl) zf_X6_41 fk_250 dX6_number_19 ?_
      refine j_iload_n dX6_number_22 3 rfl ?_
      obtain ⟨b5, hb5, hf⟩ := obb hf
      obtain ⟨eb5, tb5⟩ := ztg_s hb5
      obtain ⟨x6, hx6, hf⟩ := obb hf
      refine a_Fr (x := ix_1) [pI v3] [pI v2] (tJ2_get (some b5) v3 u hx6) ⟨q810, q813, q815, q131, q817⟩ iF_1 df_1 rfl ⟨(Nat.le_of_ble_eq_true rfl), (Nat.le_of_ble_eq_true rfl)⟩ zcl_5 rfl tb5 (by rw [← eb5]; rfl) (Nat.le_of_ble_eq_true rfl) dX6_number_23 ⟨Nat.le_refl 0, Nat.le_refl 0⟩ ?_
      obtain ⟨y7, hy7, hf⟩ := obb hf
      refine c_cast hy7 zok_Starts q1141 dX6_number_28 ?_
      obtain ⟨x8, hx8, hf⟩ := obb hf
      refine c_getiN (ci := 4) (k := 1) hx8 zcl_4 (Nat.le_of_ble_eq_true rfl) zf_X6_99 fk_161 dX6_number_31 ?_
      refine j_imul dX6_number_34 ?_
      refine j_aload_n dX6_number_35 0 rfl ?_
      obtain ⟨x9, hx9, hf⟩ := obb hf
      refine c_geta (ci := 6) (k := 10) hx9 zcl_6 (Nat.le_of_ble_eq_true rfl) zf_X6_41 fk_250 dX6_number_36 ?_
      refine j_iload_n dX6_number_39 3 rfl ?_
      obtain ⟨b10, hb10, hf⟩ := obb hf
      obtain ⟨eb10, tb10⟩ := ztg_s hb10
      obtain ⟨x11, hx11, hf⟩ := obb hf
      refine a_Fr (x := ix_1) [pI v3] [pI (v2 * x8)] (tJ2_get (some b10) v3 u hx11) ⟨q810, q813, q815, q131, q817⟩ iF_1 df_1 rfl ⟨(Nat.le_of_ble_eq_true rfl), (Nat.le_of_ble_eq_true rfl)⟩ zcl_5 rfl tb10 (by rw [← eb10]; rfl) (Nat.le_of_ble_eq_true rfl) dX6_number_40 ⟨Nat.le_refl 0, Nat.le_refl 0⟩ ?_
      obtain ⟨y12, hy12, hf⟩ := obb hf
      refine c_cast hy12 zok_Starts q1141 dX6_number_45 ?_
      refine j_aload_n dX6_number_48 1 rfl ?_
      obtain ⟨x13, hx13, hf⟩ := obb hf
      refine c_getaN (ci := 1) (k := 0) hx13 zcl_1 (Nat.le_of_ble_eq_true rfl) zf_X6_131 fk_40 dX6_number_49 ?_
      refine j_iload_n dX6_number_52 3 rfl ?_
      obtain ⟨x14, hx14, hf⟩ := obb hf
      refine c_iald hx14 dX6_number_53 ?_
      obtain ⟨b15, hb15, hf⟩ := obb hf
      obtain ⟨eb15, tb15⟩ := ztg_s hb15
      obtain ⟨x16, hx16, hf⟩ := obb hf
      refine a_Vr [pI x14] [pI (v2 * x8)] (t4_cell (some b15) x14 u hx16) ⟨q1386, q1387, q1388, q135, q1389⟩ dv4_cell rfl ⟨(Nat.le_of_ble_eq_true rfl), (Nat.le_of_ble_eq_true rfl)⟩ (c_recv zcl_4 tb15) (by rw [← eb15]; rfl) (Nat.le_of_ble_eq_true rfl) dX6_number_54 ⟨Nat.le_refl 0, Nat.le_refl 0⟩ ?_
      refine j_iadd dX6_number_57 ?_
      refine j_istore_n dX6_number_58 [(2, pI ((v2 * x8) + x16)), (0, pR v0), (1, pR v1), (3, pI v3)] (Nat.le_of_ble_eq_true rfl) rfl ?_
      refine j_iinc dX6_number_59 3 rfl [(3, pI (v3 + 1)), (2, pI ((v2 * x8) + x16)), (0, pR v0), (1, pR v1)] (Nat.le_of_ble_eq_true rfl) rfl ?_
      refine j_goto 4 dX6_number_62 (by decide) ?_
      exact j_sub [2, 3, 1, 0] _ rfl (ih ((v2 * x8) + x16) (v3 + 1) hf)
theorem t6_number {G : CG} {A : Nat → Prop} {l : Launch} {r : Int} (v0 : Option Nat) (v1 : Option Nat) (u : Sg) (hf : f6_number G v0 v1 u = some r) : JM kC (bC G A) A l yX6_number D6_number [pR v0, pR v1] u (some (pI r)) u 0 0 := by
  refine j_met (lv0 := [(0, pR v0), (1, pR v1)]) ⟨pl_X6, rfl, rfl, (Nat.le_of_ble_eq_true rfl), rfl⟩ ?_
  unfold f6_number at hf
  refine j_iconst dX6_number_0 ?_
  refine j_istore_n dX6_number_1 [(2, pI 0), (0, pR v0), (1, pR v1)] (Nat.le_of_ble_eq_true rfl) rfl ?_
  refine j_iconst dX6_number_2 ?_
  refine j_istore_n dX6_number_3 [(3, pI 0), (2, pI 0), (0, pR v0), (1, pR v1)] (Nat.le_of_ble_eq_true rfl) rfl ?_
  refine j_sub [2, 3, 1, 0] _ rfl (t6_number_l4 v0 v1 u ?_ NN 0 0 hf)
  · intro q1 hf
    refine j_iload_n dX6_number_65 0 rfl ?_
    replace hf := Option.some.inj hf
    subst hf
    exact j_ireturn (bC_mv G A) ⟨Nat.le_refl 0, Nat.le_refl 0⟩ rfl dX6_number_66
theorem t3_compare_b95 {G : CG} {A : Nat → Prop} {l : Launch} {a : List PV} {r : Int × Sg} {Kf : Sg → Option (Int × Sg)} {v0 : Option Nat} {v1 : Option Nat} {v2 : Option Nat} (kh : Int → Sg → Option (Sg)) (hkh : ∀ (z3 : Int) (zu : Sg), ((kh z3 zu).bind Kf = some r) → JW kC (bC G A) A l D3_compare a (jQ (bC G A) A a (some (pI r.1)) r.2 0 0) 0 0 zu 0 0 24 [(0, pR v0), (1, pR v1), (2, pR v2), (3, pI z3)] []) (hK0 : ∀ q : Sg, Kf q = some r → JW kC (bC G A) A l D3_compare a (jQ (bC G A) A a (some (pI r.1)) r.2 0 0) 0 0 q 0 0 104 [(0, pR v0)] []) (v3 : Int) (s0 : Option Nat) (s1 : Int) (u : Sg) (hf : (f3_compare_b95 G kh v0 v1 v2 v3 s0 s1 u).bind Kf = some r) : JW kC (bC G A) A l D3_compare a (jQ (bC G A) A a (some (pI r.1)) r.2 0 0) 0 0 u 0 0 95 [(0, pR v0), (1, pR v1), (2, pR v2), (3, pI v3)] [pI s1, pR s0] := by
  unfold f3_compare_b95 at hf
  obtain ⟨b1, hb1, hf⟩ := obb hf
  obtain ⟨eb1, tb1⟩ := ztg_s hb1
  obtain ⟨u2, hu2, hf⟩ := obb hf
  refine a_Vv [pI s1] [] (t3_keep (some b1) s1 u hu2) ⟨q1390, q1391, q1392, q134, q1393⟩ dv3_keep rfl ⟨(Nat.le_of_ble_eq_true rfl), (Nat.le_of_ble_eq_true rfl)⟩ (c_recv zcl_3 tb1) (by rw [← eb1]; rfl) (Nat.le_of_ble_eq_true rfl) dX3_compare_95 ⟨Nat.le_refl 0, Nat.le_refl 0⟩ ?_
  refine j_iinc dX3_compare_98 3 rfl [(3, pI (v3 + 1)), (0, pR v0), (1, pR v1), (2, pR v2)] (Nat.le_of_ble_eq_true rfl) rfl ?_
  refine j_goto 24 dX3_compare_101 (by decide) ?_
  exact j_sub [1, 2, 3, 0] _ rfl (hkh (v3 + 1) u2 hf)
theorem t3_compare_l24 {G : CG} {A : Nat → Prop} {l : Launch} {a : List PV} {r : Int × Sg} {Kf : Sg → Option (Int × Sg)} (v0 : Option Nat) (v1 : Option Nat) (v2 : Option Nat) (hK0 : ∀ q : Sg, Kf q = some r → JW kC (bC G A) A l D3_compare a (jQ (bC G A) A a (some (pI r.1)) r.2 0 0) 0 0 q 0 0 104 [(0, pR v0)] []) : ∀ (n : Nat) (v3 : Int) (u : Sg), ((f3_compare_l24 G v0 v1 v2 n v3 u).bind Kf = some r) → JW kC (bC G A) A l D3_compare a (jQ (bC G A) A a (some (pI r.1)) r.2 0 0) 0 0 u 0 0 24 [(0, pR v0), (1, pR v1), (2, pR v2), (3, pI v3)] [] := by
  intro n
  induction n with
  | zero => intro v3 u hf; exact onb hf
  | succ n ih =>
    intro v3 u hf
    unfold f3_compare_l24 at hf
    refine j_iload_n dX3_compare_24 3 rfl ?_
    refine j_i2l dX3_compare_25 ?_
    refine j_aload_n dX3_compare_26 0 rfl ?_
    obtain ⟨x1, hx1, hf⟩ := obb hf
    refine c_getl (ci := 3) (k := 2) hx1 zcl_3 (Nat.le_of_ble_eq_true rfl) zf_X3_56 fk_122 dX3_compare_27 ?_
    refine j_lc_ge 104 dX3_compare_30 dX3_compare_31 (by decide) (fun h18 => ?_) (fun h18 => ?_)
    · replace hf := itb h18 hf
      exact j_sub [0] _ rfl (hK0 u hf)
    · replace hf := ieb h18 hf
      refine j_aload_n dX3_compare_34 0 rfl ?_
      refine j_iload_n dX3_compare_35 3 rfl ?_
      obtain ⟨b2, hb2, hf⟩ := obb hf
      obtain ⟨eb2, tb2⟩ := ztg_s hb2
      obtain ⟨u3, hu3, hf⟩ := obb hf
      refine a_Vv [pI v3] [] (t3_way (some b2) v3 u hu3) ⟨q1378, q1379, q1380, q134, q1381⟩ dv3_way rfl ⟨(Nat.le_of_ble_eq_true rfl), (Nat.le_of_ble_eq_true rfl)⟩ (c_recv zcl_3 tb2) (by rw [← eb2]; rfl) (Nat.le_of_ble_eq_true rfl) dX3_compare_36 ⟨Nat.le_refl 0, Nat.le_refl 0⟩ ?_
      refine j_aload_n dX3_compare_39 1 rfl ?_
      obtain ⟨x4, hx4, hf⟩ := obb hf
      refine c_getaN (ci := 6) (k := 12) hx4 zcl_6 (Nat.le_of_ble_eq_true rfl) zf_X3_107 fk_252 dX3_compare_40 ?_
      refine j_aload_n dX3_compare_43 1 rfl ?_
      refine j_aload_n dX3_compare_44 0 rfl ?_
      obtain ⟨x5, hx5, hf⟩ := obb hf
      refine c_geta (ci := 3) (k := 9) hx5 zcl_3 (Nat.le_of_ble_eq_true rfl) zf_X3_3 fk_129 dX3_compare_45 ?_
      obtain ⟨x6, hx6, hf⟩ := obb hf
      refine c_getaN (ci := 0) (k := 13) hx6 zcl_0 (Nat.le_of_ble_eq_true rfl) zf_X3_89 fk_13 dX3_compare_48 ?_
      obtain ⟨b7, hb7, hf⟩ := obb hf
      obtain ⟨eb7, tb7⟩ := ztg_s hb7
      obtain ⟨x8, hx8, hf⟩ := obb hf
      refine a_Vr [pR x6] [pR x4] (t6_number (some b7) x6 u3 hx8) ⟨q1382, q1383, q1384, q145, q1385⟩ dv6_number rfl ⟨(Nat.le_of_ble_eq_true rfl), (Nat.le_of_ble_eq_true rfl)⟩ (c_recv zcl_6 tb7) (by rw [← eb7]; rfl) (Nat.le_of_ble_eq_true rfl) dX3_compare_51 ⟨Nat.le_refl 0, Nat.le_refl 0⟩ ?_
      obtain ⟨x9, hx9, hf⟩ := obb hf
      refine c_bald hx9 dX3_compare_54 ?_
      refine j_istore dX3_compare_55 [(4, pI x9), (0, pR v0), (1, pR v1), (2, pR v2), (3, pI v3)] (Nat.le_of_ble_eq_true rfl) rfl ?_
      refine j_aload_n dX3_compare_57 3 rfl ?_
      obtain ⟨x10, hx10, hf⟩ := obb hf
      refine c_getaN (ci := 6) (k := 12) hx10 zcl_6 (Nat.le_of_ble_eq_true rfl) zf_X3_107 fk_252 dX3_compare_58 ?_
      refine j_aload_n dX3_compare_61 3 rfl ?_
      refine j_aload_n dX3_compare_62 1 rfl ?_
      obtain ⟨x11, hx11, hf⟩ := obb hf
      refine c_geta (ci := 3) (k := 9) hx11 zcl_3 (Nat.le_of_ble_eq_true rfl) zf_X3_3 fk_129 dX3_compare_63 ?_
      obtain ⟨x12, hx12, hf⟩ := obb hf
      refine c_getaN (ci := 0) (k := 13) hx12 zcl_0 (Nat.le_of_ble_eq_true rfl) zf_X3_89 fk_13 dX3_compare_66 ?_
      obtain ⟨b13, hb13, hf⟩ := obb hf
      obtain ⟨eb13, tb13⟩ := ztg_s hb13
      obtain ⟨x14, hx14, hf⟩ := obb hf
      refine a_Vr [pR x12] [pR x10] (t6_number (some b13) x12 u3 hx14) ⟨q1382, q1383, q1384, q145, q1385⟩ dv6_number rfl ⟨(Nat.le_of_ble_eq_true rfl), (Nat.le_of_ble_eq_true rfl)⟩ (c_recv zcl_6 tb13) (by rw [← eb13]; rfl) (Nat.le_of_ble_eq_true rfl) dX3_compare_69 ⟨Nat.le_refl 0, Nat.le_refl 0⟩ ?_
      obtain ⟨x15, hx15, hf⟩ := obb hf
      refine c_bald hx15 dX3_compare_72 ?_
      refine j_istore dX3_compare_73 [(5, pI x15), (4, pI x9), (0, pR v0), (1, pR v1), (2, pR v2), (3, pI v3)] (Nat.le_of_ble_eq_true rfl) rfl ?_
      refine j_iload dX3_compare_75 1 rfl ?_
      refine j_iload dX3_compare_77 0 rfl ?_
      refine j_icmp_eq (w32 x9) (w32 x15) rfl rfl 98 dX3_compare_79 (by decide) (fun h17 => ?_) (fun h17 => ?_)
      · replace hf := itb h17 hf
        refine j_iinc dX3_compare_98 5 rfl [(3, pI (v3 + 1)), (5, pI x15), (4, pI x9), (0, pR v0), (1, pR v1), (2, pR v2)] (Nat.le_of_ble_eq_true rfl) rfl ?_
        refine j_goto 24 dX3_compare_101 (by decide) ?_
        exact j_sub [3, 4, 5, 0] _ rfl (ih (v3 + 1) u3 hf)
      · replace hf := ieb h17 hf
        refine j_aload_n dX3_compare_82 2 rfl ?_
        refine j_iload dX3_compare_83 1 rfl ?_
        refine j_iload dX3_compare_85 0 rfl ?_
        refine j_icmp_le (w32 x9) (w32 x15) rfl rfl 94 dX3_compare_87 (by decide) (fun h16 => ?_) (fun h16 => ?_)
        · replace hf := itb h16 hf
          refine j_iconst dX3_compare_94 ?_
          exact j_sub [2, 3, 4, 5] _ rfl (t3_compare_b95 (f3_compare_l24 G v0 v1 v2 n) ih hK0 v3 v0 1 u3 hf)
        · replace hf := ieb h16 hf
          refine j_iconst dX3_compare_90 ?_
          refine j_goto 95 dX3_compare_91 (by decide) ?_
          exact j_sub [2, 3, 4, 5] _ rfl (t3_compare_b95 (f3_compare_l24 G v0 v1 v2 n) ih hK0 v3 v0 0 u3 hf)
theorem t3_compare_b118 {G : CG} {A : Nat → Prop} {l : Launch} {a : List PV} {r : Int × Sg} (v0 : Option Nat) (s0 : Int) (u : Sg) (hf : f3_compare_b118 G v0 s0 u = some r) : JW kC (bC G A) A l D3_compare a (jQ (bC G A) A a (some (pI r.1)) r.2 0 0) 0 0 u 0 0 118 [(0, pR v0)] [pI s0] := by
  unfold f3_compare_b118 at hf
  refine j_aload_n dX3_compare_118 0 rfl ?_
  obtain ⟨x1, hx1, hf⟩ := ob hf
  refine c_geta (ci := 3) (k := 4) hx1 zcl_3 (Nat.le_of_ble_eq_true rfl) zf_X3_26 fk_124 dX3_compare_119 ?_
  refine j_iconst dX3_compare_122 ?_
  obtain ⟨x2, hx2, hf⟩ := ob hf
  refine c_zald hx2 dX3_compare_123 ?_
  refine j_if_eq (w32 x2) rfl 131 dX3_compare_124 (by decide) (fun h3 => ?_) (fun h3 => ?_)
  · replace hf := it h3 hf
    refine j_iconst dX3_compare_131 ?_
    refine j_iadd dX3_compare_132 ?_
    replace hf := Option.some.inj hf
    subst hf
    exact j_ireturn (bC_mv G A) ⟨Nat.le_refl 0, Nat.le_refl 0⟩ rfl dX3_compare_133
  · replace hf := ie h3 hf
    refine j_iconst dX3_compare_127 ?_
    refine j_goto 132 dX3_compare_128 (by decide) ?_
    refine j_iadd dX3_compare_132 ?_
    replace hf := Option.some.inj hf
    subst hf
    exact j_ireturn (bC_mv G A) ⟨Nat.le_refl 0, Nat.le_refl 0⟩ rfl dX3_compare_133
theorem t3_compare {G : CG} {A : Nat → Prop} {l : Launch} {r : Int × Sg} (v0 : Option Nat) (v1 : Option Nat) (v2 : Option Nat) (u : Sg) (hf : f3_compare G v0 v1 v2 u = some r) : JM kC (bC G A) A l yX3_compare D3_compare [pR v0, pR v1, pR v2] u (some (pI r.1)) r.2 0 0 := by
  refine j_met (lv0 := [(0, pR v0), (1, pR v1), (2, pR v2)]) ⟨pl_X3, rfl, rfl, (Nat.le_of_ble_eq_true rfl), rfl⟩ ?_
  unfold f3_compare at hf
  refine j_aload_n dX3_compare_0 0 rfl ?_
  obtain ⟨x1, hx1, hf⟩ := ob hf
  refine c_geta (ci := 3) (k := 4) hx1 zcl_3 (Nat.le_of_ble_eq_true rfl) zf_X3_26 fk_124 dX3_compare_1 ?_
  refine j_iconst dX3_compare_4 ?_
  refine j_iconst dX3_compare_5 ?_
  obtain ⟨u2, hu2, hf⟩ := ob hf
  refine c_zast hu2 dX3_compare_6 ?_
  refine j_aload_n dX3_compare_7 0 rfl ?_
  obtain ⟨x3, hx3, hf⟩ := ob hf
  refine c_geta (ci := 3) (k := 4) hx3 zcl_3 (Nat.le_of_ble_eq_true rfl) zf_X3_26 fk_124 dX3_compare_8 ?_
  refine j_iconst dX3_compare_11 ?_
  refine j_iconst dX3_compare_12 ?_
  obtain ⟨u4, hu4, hf⟩ := ob hf
  refine c_zast hu4 dX3_compare_13 ?_
  refine j_aload_n dX3_compare_14 0 rfl ?_
  refine j_aload_n dX3_compare_15 0 rfl ?_
  obtain ⟨x5, hx5, hf⟩ := ob hf
  refine c_geti (ci := 3) (k := 1) hx5 zcl_3 (Nat.le_of_ble_eq_true rfl) zf_X3_53 fk_121 dX3_compare_16 ?_
  obtain ⟨u6, hu6, hf⟩ := ob hf
  refine c_puti (ci := 3) (k := 5) hu6 zcl_3 (Nat.le_of_ble_eq_true rfl) zf_X3_101 fk_125 rfl fits_I dX3_compare_19 ?_
  refine j_iconst dX3_compare_22 ?_
  refine j_istore_n dX3_compare_23 [(3, pI 0), (0, pR v0), (1, pR v1), (2, pR v2)] (Nat.le_of_ble_eq_true rfl) rfl ?_
  refine j_sub [1, 2, 3, 0] _ rfl (t3_compare_l24 v0 v1 v2 ?_ NN 0 u6 hf)
  · intro q7 hf
    refine j_aload_n dX3_compare_104 0 rfl ?_
    obtain ⟨x8, hx8, hf⟩ := ob hf
    refine c_geta (ci := 3) (k := 4) hx8 zcl_3 (Nat.le_of_ble_eq_true rfl) zf_X3_26 fk_124 dX3_compare_105 ?_
    refine j_iconst dX3_compare_108 ?_
    obtain ⟨x9, hx9, hf⟩ := ob hf
    refine c_zald hx9 dX3_compare_109 ?_
    refine j_if_eq (w32 x9) rfl 117 dX3_compare_110 (by decide) (fun h10 => ?_) (fun h10 => ?_)
    · replace hf := it h10 hf
      refine j_iconst dX3_compare_117 ?_
      exact j_sub [0] _ rfl (t3_compare_b118 v0 0 q7 hf)
    · replace hf := ie h10 hf
      refine j_iconst dX3_compare_113 ?_
      refine j_goto 118 dX3_compare_114 (by decide) ?_
      exact j_sub [0] _ rfl (t3_compare_b118 v0 1 q7 hf)
theorem t3_isParted_b97 {G : CG} {A : Nat → Prop} {l : Launch} {a : List PV} {r : Int × Sg} {Kf : Sg → Option (Int × Sg)} {v0 : Option Nat} {v1 : Option Nat} {v2 : Option Nat} {v3 : Option Nat} (kh : Int → Sg → Option (Sg)) (hkh : ∀ (z4 : Int) (zu : Sg), ((kh z4 zu).bind Kf = some r) → JW kC (bC G A) A l D3_isParted a (jQ (bC G A) A a (some (pI r.1)) r.2 0 0) 0 0 zu 0 0 21 [(0, pR v0), (1, pR v1), (2, pR v2), (3, pR v3), (4, pI z4)] []) (hK0 : ∀ q : Sg, Kf q = some r → JW kC (bC G A) A l D3_isParted a (jQ (bC G A) A a (some (pI r.1)) r.2 0 0) 0 0 q 0 0 124 [(0, pR v0)] []) (v4 : Int) (v5 : Option Nat) (u : Sg) (hf : (f3_isParted_b97 G kh v0 v1 v2 v3 v4 v5 u).bind Kf = some r) : JW kC (bC G A) A l D3_isParted a (jQ (bC G A) A a (some (pI r.1)) r.2 0 0) 0 0 u 0 0 97 [(0, pR v0), (1, pR v1), (2, pR v2), (3, pR v3), (4, pI v4), (5, pR v5)] [] := by
  unfold f3_isParted_b97 at hf
  refine j_aload_n dX3_isParted_97 0 rfl ?_
  refine j_aload_n dX3_isParted_98 0 rfl ?_
  obtain ⟨x1, hx1, hf⟩ := obb hf
  refine c_getl (ci := 3) (k := 2) hx1 zcl_3 (Nat.le_of_ble_eq_true rfl) zf_X3_56 fk_122 dX3_isParted_99 ?_
  refine j_aload dX3_isParted_102 5 rfl ?_
  obtain ⟨x2, hx2, hf⟩ := obb hf
  refine c_getiN (ci := 4) (k := 1) hx2 zcl_4 (Nat.le_of_ble_eq_true rfl) zf_X3_77 fk_161 dX3_isParted_104 ?_
  refine j_i2l dX3_isParted_107 ?_
  refine j_lmul dX3_isParted_108 ?_
  refine j_ldc2 (z := 1000000) q1371 (by decide) dX3_isParted_109 ?_
  refine j_mmin_long q1372 q1185 q137 q1186 (Nat.le_of_ble_eq_true rfl) (Nat.le_of_ble_eq_true rfl) (Nat.le_of_ble_eq_true rfl) ⟨Nat.le_refl 0, Nat.le_refl 0⟩ dX3_isParted_112 ?_
  obtain ⟨u3, hu3, hf⟩ := obb hf
  refine c_putl (ci := 3) (k := 2) hu3 zcl_3 (Nat.le_of_ble_eq_true rfl) zf_X3_56 fk_122 rfl fits_L dX3_isParted_115 ?_
  refine j_iinc dX3_isParted_118 4 rfl [(4, pI (v4 + 1)), (0, pR v0), (1, pR v1), (2, pR v2), (3, pR v3), (5, pR v5)] (Nat.le_of_ble_eq_true rfl) rfl ?_
  refine j_goto 21 dX3_isParted_121 (by decide) ?_
  exact j_sub [1, 2, 3, 4, 0] _ rfl (hkh (v4 + 1) u3 hf)
theorem t3_isParted_b85 {G : CG} {A : Nat → Prop} {l : Launch} {a : List PV} {r : Int × Sg} {Kf : Sg → Option (Int × Sg)} {v0 : Option Nat} {v1 : Option Nat} {v2 : Option Nat} {v3 : Option Nat} (kh : Int → Sg → Option (Sg)) (hkh : ∀ (z4 : Int) (zu : Sg), ((kh z4 zu).bind Kf = some r) → JW kC (bC G A) A l D3_isParted a (jQ (bC G A) A a (some (pI r.1)) r.2 0 0) 0 0 zu 0 0 21 [(0, pR v0), (1, pR v1), (2, pR v2), (3, pR v3), (4, pI z4)] []) (hK0 : ∀ q : Sg, Kf q = some r → JW kC (bC G A) A l D3_isParted a (jQ (bC G A) A a (some (pI r.1)) r.2 0 0) 0 0 q 0 0 124 [(0, pR v0)] []) (v4 : Int) (v5 : Option Nat) (u : Sg) (hf : (f3_isParted_b85 G kh v0 v1 v2 v3 v4 v5 u).bind Kf = some r) : JW kC (bC G A) A l D3_isParted a (jQ (bC G A) A a (some (pI r.1)) r.2 0 0) 0 0 u 0 0 85 [(0, pR v0), (1, pR v1), (2, pR v2), (3, pR v3), (4, pI v4), (5, pR v5)] [] := by
  unfold f3_isParted_b85 at hf
  refine j_aload_n dX3_isParted_85 3 rfl ?_
  refine j_ifnull 97 dX3_isParted_86 (by decide) (fun h2 => ?_) (fun h2 => ?_)
  · replace hf := itb h2 hf
    exact j_sub [0, 1, 2, 3, 4, 5] _ rfl (t3_isParted_b97 (kh) hkh hK0 v4 v5 u hf)
  · replace hf := ieb h2 hf
    refine j_aload_n dX3_isParted_89 3 rfl ?_
    refine j_iload dX3_isParted_90 4 rfl ?_
    refine j_aload dX3_isParted_92 5 rfl ?_
    obtain ⟨u1, hu1, hf⟩ := obb hf
    refine (tv_part DD v3 v4 v5 u u1 hu1) _ _ _ _ _ _ _ _ _ _ [] _ [] q1370 (Nat.le_of_ble_eq_true rfl) (Nat.le_of_ble_eq_true rfl) rfl rfl (Nat.le_of_ble_eq_true rfl) dX3_isParted_94 ⟨Nat.le_refl 0, Nat.le_refl 0⟩ ?_
    exact j_sub [0, 1, 2, 3, 4, 5] _ rfl (t3_isParted_b97 (kh) hkh hK0 v4 v5 u1 hf)
theorem t3_isParted_l21 {G : CG} {A : Nat → Prop} {l : Launch} {a : List PV} {r : Int × Sg} {Kf : Sg → Option (Int × Sg)} (v0 : Option Nat) (v1 : Option Nat) (v2 : Option Nat) (v3 : Option Nat) (hK0 : ∀ q : Sg, Kf q = some r → JW kC (bC G A) A l D3_isParted a (jQ (bC G A) A a (some (pI r.1)) r.2 0 0) 0 0 q 0 0 124 [(0, pR v0)] []) : ∀ (n : Nat) (v4 : Int) (u : Sg), ((f3_isParted_l21 G v0 v1 v2 v3 n v4 u).bind Kf = some r) → JW kC (bC G A) A l D3_isParted a (jQ (bC G A) A a (some (pI r.1)) r.2 0 0) 0 0 u 0 0 21 [(0, pR v0), (1, pR v1), (2, pR v2), (3, pR v3), (4, pI v4)] [] := by
  intro n
  induction n with
  | zero => intro v4 u hf; exact onb hf
  | succ n ih =>
    intro v4 u hf
    unfold f3_isParted_l21 at hf
    refine j_iload dX3_isParted_21 4 rfl ?_
    refine j_aload_n dX3_isParted_23 0 rfl ?_
    obtain ⟨x1, hx1, hf⟩ := obb hf
    refine c_geti (ci := 3) (k := 1) hx1 zcl_3 (Nat.le_of_ble_eq_true rfl) zf_X3_53 fk_121 dX3_isParted_24 ?_
    refine j_icmp_ge (w32 v4) (w32 x1) rfl rfl 124 dX3_isParted_27 (by decide) (fun h17 => ?_) (fun h17 => ?_)
    · replace hf := itb h17 hf
      exact j_sub [0] _ rfl (hK0 u hf)
    · replace hf := ieb h17 hf
      refine j_aload_n dX3_isParted_30 0 rfl ?_
      obtain ⟨x2, hx2, hf⟩ := obb hf
      refine c_geta (ci := 3) (k := 0) hx2 zcl_3 (Nat.le_of_ble_eq_true rfl) zf_X3_18 fk_120 dX3_isParted_31 ?_
      refine j_iload dX3_isParted_34 4 rfl ?_
      obtain ⟨b3, hb3, hf⟩ := obb hf
      obtain ⟨eb3, tb3⟩ := ztg_s hb3
      obtain ⟨x4, hx4, hf⟩ := obb hf
      refine a_Fr (x := ix_1) [pI v4] [] (tJ2_get (some b3) v4 u hx4) ⟨q1366, q813, q815, q131, q817⟩ iF_1 df_1 rfl ⟨(Nat.le_of_ble_eq_true rfl), (Nat.le_of_ble_eq_true rfl)⟩ zcl_5 rfl tb3 (by rw [← eb3]; rfl) (Nat.le_of_ble_eq_true rfl) dX3_isParted_36 ⟨Nat.le_refl 0, Nat.le_refl 0⟩ ?_
      obtain ⟨y5, hy5, hf⟩ := obb hf
      refine c_cast hy5 zok_Starts q298 dX3_isParted_41 ?_
      refine j_astore dX3_isParted_44 [(5, pR x4), (0, pR v0), (1, pR v1), (2, pR v2), (3, pR v3), (4, pI v4)] (Nat.le_of_ble_eq_true rfl) rfl ?_
      refine j_aload dX3_isParted_46 0 rfl ?_
      refine j_aload_n dX3_isParted_48 2 rfl ?_
      obtain ⟨x6, hx6, hf⟩ := obb hf
      refine c_getaN (ci := 6) (k := 0) hx6 zcl_6 (Nat.le_of_ble_eq_true rfl) zf_X3_44 fk_240 dX3_isParted_49 ?_
      refine j_iload dX3_isParted_52 5 rfl ?_
      obtain ⟨b7, hb7, hf⟩ := obb hf
      obtain ⟨eb7, tb7⟩ := ztg_s hb7
      obtain ⟨x8, hx8, hf⟩ := obb hf
      refine a_Fr (x := ix_1) [pI v4] [pR x4] (tJ2_get (some b7) v4 u hx8) ⟨q1366, q813, q815, q131, q817⟩ iF_1 df_1 rfl ⟨(Nat.le_of_ble_eq_true rfl), (Nat.le_of_ble_eq_true rfl)⟩ zcl_5 rfl tb7 (by rw [← eb7]; rfl) (Nat.le_of_ble_eq_true rfl) dX3_isParted_54 ⟨Nat.le_refl 0, Nat.le_refl 0⟩ ?_
      obtain ⟨y9, hy9, hf⟩ := obb hf
      refine c_cast hy9 zok_Fact q1367 dX3_isParted_59 ?_
      obtain ⟨b10, hb10, hf⟩ := obb hf
      obtain ⟨eb10, tb10⟩ := ztg_s hb10
      obtain ⟨u11, hu11, hf⟩ := obb hf
      refine a_Vv [pR x8] [] (t4_begin (some b10) x8 u hu11) ⟨q1368, q1143, q1144, q135, q1145⟩ dv4_begin rfl ⟨(Nat.le_of_ble_eq_true rfl), (Nat.le_of_ble_eq_true rfl)⟩ (c_recv zcl_4 tb10) (by rw [← eb10]; rfl) (Nat.le_of_ble_eq_true rfl) dX3_isParted_62 ⟨Nat.le_refl 0, Nat.le_refl 0⟩ ?_
      refine j_aload_n dX3_isParted_65 2 rfl ?_
      refine j_iload dX3_isParted_66 5 rfl ?_
      refine j_aload dX3_isParted_68 0 rfl ?_
      obtain ⟨b12, hb12, hf⟩ := obb hf
      obtain ⟨eb12, tb12⟩ := ztg_s hb12
      obtain ⟨u13, hu13, hf⟩ := obb hf
      refine a_Vv [pI v4, pR x4] [] (t6_part (some b12) v4 x4 u11 hu13) ⟨q1369, q1147, q1148, q145, q1149⟩ dv6_part rfl ⟨(Nat.le_of_ble_eq_true rfl), (Nat.le_of_ble_eq_true rfl)⟩ (c_recv zcl_6 tb12) (by rw [← eb12]; rfl) (Nat.le_of_ble_eq_true rfl) dX3_isParted_70 ⟨Nat.le_refl 0, Nat.le_refl 0⟩ ?_
      refine j_aload_n dX3_isParted_73 3 rfl ?_
      refine j_ifnull 85 dX3_isParted_74 (by decide) (fun h16 => ?_) (fun h16 => ?_)
      · replace hf := itb h16 hf
        exact j_sub [1, 2, 3, 4, 5, 0] _ rfl (t3_isParted_b85 (f3_isParted_l21 G v0 v1 v2 v3 n) ih hK0 v4 x4 u13 hf)
      · replace hf := ieb h16 hf
        refine j_aload_n dX3_isParted_77 3 rfl ?_
        refine j_iload dX3_isParted_78 5 rfl ?_
        refine j_aload dX3_isParted_80 0 rfl ?_
        obtain ⟨b14, hb14, hf⟩ := obb hf
        obtain ⟨eb14, tb14⟩ := ztg_s hb14
        obtain ⟨u15, hu15, hf⟩ := obb hf
        refine a_Vv [pI v4, pR x4] [] (t6_part (some b14) v4 x4 u13 hu15) ⟨q1369, q1147, q1148, q145, q1149⟩ dv6_part rfl ⟨(Nat.le_of_ble_eq_true rfl), (Nat.le_of_ble_eq_true rfl)⟩ (c_recv zcl_6 tb14) (by rw [← eb14]; rfl) (Nat.le_of_ble_eq_true rfl) dX3_isParted_82 ⟨Nat.le_refl 0, Nat.le_refl 0⟩ ?_
        exact j_sub [1, 2, 3, 4, 5, 0] _ rfl (t3_isParted_b85 (f3_isParted_l21 G v0 v1 v2 v3 n) ih hK0 v4 x4 u15 hf)
theorem t3_isParted {G : CG} {A : Nat → Prop} {l : Launch} {r : Int × Sg} (v0 : Option Nat) (v1 : Option Nat) (v2 : Option Nat) (v3 : Option Nat) (u : Sg) (hf : f3_isParted G v0 v1 v2 v3 u = some r) : JM kC (bC G A) A l yX3_isParted D3_isParted [pR v0, pR v1, pR v2, pR v3] u (some (pI r.1)) r.2 0 0 := by
  refine j_met (lv0 := [(0, pR v0), (1, pR v1), (2, pR v2), (3, pR v3)]) ⟨pl_X3, rfl, rfl, (Nat.le_of_ble_eq_true rfl), rfl⟩ ?_
  unfold f3_isParted at hf
  refine j_aload_n dX3_isParted_0 0 rfl ?_
  refine j_aload_n dX3_isParted_1 1 rfl ?_
  obtain ⟨x1, hx1, hf⟩ := ob hf
  refine c_getaN (ci := 6) (k := 0) hx1 zcl_6 (Nat.le_of_ble_eq_true rfl) zf_X3_44 fk_240 dX3_isParted_2 ?_
  obtain ⟨b2, hb2, hf⟩ := ob hf
  obtain ⟨eb2, tb2⟩ := ztg_s hb2
  obtain ⟨x3, hx3, hf⟩ := ob hf
  refine a_Fr (x := ix_0) [] [pR v0] (tJ2_size (some b2) u hx3) ⟨q1364, q559, q561, q131, q563⟩ iF_0 df_0 rfl ⟨(Nat.le_of_ble_eq_true rfl), (Nat.le_of_ble_eq_true rfl)⟩ zcl_5 rfl tb2 (by rw [← eb2]; rfl) (Nat.le_of_ble_eq_true rfl) dX3_isParted_5 ⟨Nat.le_refl 0, Nat.le_refl 0⟩ ?_
  obtain ⟨u4, hu4, hf⟩ := ob hf
  refine c_puti (ci := 3) (k := 1) hu4 zcl_3 (Nat.le_of_ble_eq_true rfl) zf_X3_53 fk_121 rfl fits_I dX3_isParted_10 ?_
  refine j_aload_n dX3_isParted_13 0 rfl ?_
  refine j_lconst (z := 1) dX3_isParted_14 rfl ?_
  obtain ⟨u5, hu5, hf⟩ := ob hf
  refine c_putl (ci := 3) (k := 2) hu5 zcl_3 (Nat.le_of_ble_eq_true rfl) zf_X3_56 fk_122 rfl fits_L dX3_isParted_15 ?_
  refine j_iconst dX3_isParted_18 ?_
  refine j_istore dX3_isParted_19 [(4, pI 0), (0, pR v0), (1, pR v1), (2, pR v2), (3, pR v3)] (Nat.le_of_ble_eq_true rfl) rfl ?_
  refine j_sub [1, 2, 3, 4, 0] _ rfl (t3_isParted_l21 v0 v1 v2 v3 ?_ NN 0 u5 hf)
  · intro q6 hf
    refine j_aload_n dX3_isParted_124 0 rfl ?_
    obtain ⟨x7, hx7, hf⟩ := ob hf
    refine c_getl (ci := 3) (k := 2) hx7 zcl_3 (Nat.le_of_ble_eq_true rfl) zf_X3_56 fk_122 dX3_isParted_125 ?_
    refine j_ldc2 (z := 20000) q1373 (by decide) dX3_isParted_128 ?_
    refine j_lc_gt 139 dX3_isParted_131 dX3_isParted_132 (by decide) (fun h8 => ?_) (fun h8 => ?_)
    · replace hf := it h8 hf
      refine j_iconst dX3_isParted_139 ?_
      replace hf := Option.some.inj hf
      subst hf
      exact j_zreturn (x := 0) (bC_mv G A) ⟨Nat.le_refl 0, Nat.le_refl 0⟩ (ty := .boolean) rfl (nar_z (Or.inl rfl)) dX3_isParted_140
    · replace hf := ie h8 hf
      refine j_iconst dX3_isParted_135 ?_
      refine j_goto 140 dX3_isParted_136 (by decide) ?_
      replace hf := Option.some.inj hf
      subst hf
      exact j_zreturn (x := 1) (bC_mv G A) ⟨Nat.le_refl 0, Nat.le_refl 0⟩ (ty := .boolean) rfl (nar_z (Or.inr rfl)) dX3_isParted_140
theorem t9_isLike_l60 {G : CG} {A : Nat → Prop} {l : Launch} {a : List PV} {r : Int} {Kf : (Unit) ⊕ (Unit) → Option (Int)} (v0 : Option Nat) (v1 : Option Nat) (u : Sg) (hK0 : ∀ q : Unit, Kf (.inl q) = some r → JW kC (bC G A) A l D9_isLike a (jQ (bC G A) A a (some (pI r)) u 0 0) 0 0 u 0 0 84 [] []) (hK1 : ∀ q : Unit, Kf (.inr q) = some r → JW kC (bC G A) A l D9_isLike a (jQ (bC G A) A a (some (pI r)) u 0 0) 0 0 u 0 0 92 [] []) : ∀ (n : Nat) (v2 : Int), ((f9_isLike_l60 G v0 v1 u n v2).bind Kf = some r) → JW kC (bC G A) A l D9_isLike a (jQ (bC G A) A a (some (pI r)) u 0 0) 0 0 u 0 0 60 [(0, pR v0), (1, pR v1), (2, pI v2)] [] := by
  intro n
  induction n with
  | zero => intro v2 hf; exact onb hf
  | succ n ih =>
    intro v2 hf
    unfold f9_isLike_l60 at hf
    refine j_iload_n dX9_isLike_60 2 rfl ?_
    refine j_aload_n dX9_isLike_61 0 rfl ?_
    obtain ⟨x1, hx1, hf⟩ := obb hf
    refine c_geti (ci := 9) (k := 3) hx1 zcl_9 (Nat.le_of_ble_eq_true rfl) zf_X9_26 fk_363 dX9_isLike_62 ?_
    refine j_icmp_ge (w32 v2) (w32 x1) rfl rfl 92 dX9_isLike_65 (by decide) (fun h7 => ?_) (fun h7 => ?_)
    · replace hf := itb h7 hf
      exact j_sub [] _ rfl (hK1 () hf)
    · replace hf := ieb h7 hf
      refine j_aload_n dX9_isLike_68 0 rfl ?_
      obtain ⟨x2, hx2, hf⟩ := obb hf
      refine c_geta (ci := 9) (k := 2) hx2 zcl_9 (Nat.le_of_ble_eq_true rfl) zf_X9_9 fk_362 dX9_isLike_69 ?_
      refine j_iload_n dX9_isLike_72 2 rfl ?_
      obtain ⟨x3, hx3, hf⟩ := obb hf
      refine c_lald hx3 dX9_isLike_73 ?_
      refine j_aload_n dX9_isLike_74 1 rfl ?_
      obtain ⟨x4, hx4, hf⟩ := obb hf
      refine c_geta (ci := 9) (k := 2) hx4 zcl_9 (Nat.le_of_ble_eq_true rfl) zf_X9_9 fk_362 dX9_isLike_75 ?_
      refine j_iload_n dX9_isLike_78 2 rfl ?_
      obtain ⟨x5, hx5, hf⟩ := obb hf
      refine c_lald hx5 dX9_isLike_79 ?_
      refine j_lc_eq 86 dX9_isLike_80 dX9_isLike_81 (by decide) (fun h6 => ?_) (fun h6 => ?_)
      · replace hf := itb h6 hf
        refine j_iinc dX9_isLike_86 2 rfl [(2, pI (v2 + 1)), (0, pR v0), (1, pR v1)] (Nat.le_of_ble_eq_true rfl) rfl ?_
        refine j_goto 60 dX9_isLike_89 (by decide) ?_
        exact j_sub [1, 2, 0] _ rfl (ih (v2 + 1) hf)
      · replace hf := ieb h6 hf
        exact j_sub [] _ rfl (hK0 () hf)
theorem t9_isLike {G : CG} {A : Nat → Prop} {l : Launch} {r : Int} (v0 : Option Nat) (v1 : Option Nat) (u : Sg) (hf : f9_isLike G v0 v1 u = some r) : JM kC (bC G A) A l yX9_isLike D9_isLike [pR v0, pR v1] u (some (pI r)) u 0 0 := by
  refine j_met (lv0 := [(0, pR v0), (1, pR v1)]) ⟨pl_X9, rfl, rfl, (Nat.le_of_ble_eq_true rfl), rfl⟩ ?_
  unfold f9_isLike at hf
  refine j_aload_n dX9_isLike_0 0 rfl ?_
  obtain ⟨x1, hx1, hf⟩ := ob hf
  refine c_getl (ci := 9) (k := 0) hx1 zcl_9 (Nat.le_of_ble_eq_true rfl) zf_X9_15 fk_360 dX9_isLike_1 ?_
  refine j_aload_n dX9_isLike_4 1 rfl ?_
  obtain ⟨x2, hx2, hf⟩ := ob hf
  refine c_getl (ci := 9) (k := 0) hx2 zcl_9 (Nat.le_of_ble_eq_true rfl) zf_X9_15 fk_360 dX9_isLike_5 ?_
  refine j_lc_ne 56 dX9_isLike_8 dX9_isLike_9 (by decide) (fun h17 => ?_) (fun h17 => ?_)
  · replace hf := ie h17 hf
    refine j_iconst dX9_isLike_56 ?_
    replace hf := Option.some.inj hf
    subst hf
    exact j_zreturn (x := 0) (bC_mv G A) ⟨Nat.le_refl 0, Nat.le_refl 0⟩ (ty := .boolean) rfl (nar_z (Or.inl rfl)) dX9_isLike_57
  · replace hf := it h17 hf
    refine j_aload_n dX9_isLike_12 0 rfl ?_
    obtain ⟨x3, hx3, hf⟩ := ob hf
    refine c_geti (ci := 9) (k := 1) hx3 zcl_9 (Nat.le_of_ble_eq_true rfl) zf_X9_19 fk_361 dX9_isLike_13 ?_
    refine j_aload_n dX9_isLike_16 1 rfl ?_
    obtain ⟨x4, hx4, hf⟩ := ob hf
    refine c_geti (ci := 9) (k := 1) hx4 zcl_9 (Nat.le_of_ble_eq_true rfl) zf_X9_19 fk_361 dX9_isLike_17 ?_
    refine j_icmp_ne (w32 x3) (w32 x4) rfl rfl 56 dX9_isLike_20 (by decide) (fun h16 => ?_) (fun h16 => ?_)
    · replace hf := ie h16 hf
      refine j_iconst dX9_isLike_56 ?_
      replace hf := Option.some.inj hf
      subst hf
      exact j_zreturn (x := 0) (bC_mv G A) ⟨Nat.le_refl 0, Nat.le_refl 0⟩ (ty := .boolean) rfl (nar_z (Or.inl rfl)) dX9_isLike_57
    · replace hf := it h16 hf
      refine j_aload_n dX9_isLike_23 0 rfl ?_
      obtain ⟨x5, hx5, hf⟩ := ob hf
      refine c_geti (ci := 9) (k := 3) hx5 zcl_9 (Nat.le_of_ble_eq_true rfl) zf_X9_26 fk_363 dX9_isLike_24 ?_
      refine j_aload_n dX9_isLike_27 1 rfl ?_
      obtain ⟨x6, hx6, hf⟩ := ob hf
      refine c_geti (ci := 9) (k := 3) hx6 zcl_9 (Nat.le_of_ble_eq_true rfl) zf_X9_26 fk_363 dX9_isLike_28 ?_
      refine j_icmp_ne (w32 x5) (w32 x6) rfl rfl 56 dX9_isLike_31 (by decide) (fun h15 => ?_) (fun h15 => ?_)
      · replace hf := ie h15 hf
        refine j_iconst dX9_isLike_56 ?_
        replace hf := Option.some.inj hf
        subst hf
        exact j_zreturn (x := 0) (bC_mv G A) ⟨Nat.le_refl 0, Nat.le_refl 0⟩ (ty := .boolean) rfl (nar_z (Or.inl rfl)) dX9_isLike_57
      · replace hf := it h15 hf
        refine j_aload_n dX9_isLike_34 0 rfl ?_
        obtain ⟨x7, hx7, hf⟩ := ob hf
        refine c_geti (ci := 9) (k := 4) hx7 zcl_9 (Nat.le_of_ble_eq_true rfl) zf_X9_29 fk_364 dX9_isLike_35 ?_
        refine j_aload_n dX9_isLike_38 1 rfl ?_
        obtain ⟨x8, hx8, hf⟩ := ob hf
        refine c_geti (ci := 9) (k := 4) hx8 zcl_9 (Nat.le_of_ble_eq_true rfl) zf_X9_29 fk_364 dX9_isLike_39 ?_
        refine j_icmp_ne (w32 x7) (w32 x8) rfl rfl 56 dX9_isLike_42 (by decide) (fun h14 => ?_) (fun h14 => ?_)
        · replace hf := ie h14 hf
          refine j_iconst dX9_isLike_56 ?_
          replace hf := Option.some.inj hf
          subst hf
          exact j_zreturn (x := 0) (bC_mv G A) ⟨Nat.le_refl 0, Nat.le_refl 0⟩ (ty := .boolean) rfl (nar_z (Or.inl rfl)) dX9_isLike_57
        · replace hf := it h14 hf
          refine j_aload_n dX9_isLike_45 0 rfl ?_
          obtain ⟨x9, hx9, hf⟩ := ob hf
          refine c_geti (ci := 9) (k := 5) hx9 zcl_9 (Nat.le_of_ble_eq_true rfl) zf_X9_23 fk_365 dX9_isLike_46 ?_
          refine j_aload_n dX9_isLike_49 1 rfl ?_
          obtain ⟨x10, hx10, hf⟩ := ob hf
          refine c_geti (ci := 9) (k := 5) hx10 zcl_9 (Nat.le_of_ble_eq_true rfl) zf_X9_23 fk_365 dX9_isLike_50 ?_
          refine j_icmp_eq (w32 x9) (w32 x10) rfl rfl 58 dX9_isLike_53 (by decide) (fun h13 => ?_) (fun h13 => ?_)
          · replace hf := it h13 hf
            refine j_iconst dX9_isLike_58 ?_
            refine j_istore_n dX9_isLike_59 [(2, pI 0), (0, pR v0), (1, pR v1)] (Nat.le_of_ble_eq_true rfl) rfl ?_
            refine j_sub [1, 2, 0] _ rfl (t9_isLike_l60 v0 v1 u ?_ ?_ NN 0 hf)
            · intro q11 hf
              simp only [Sum.elim_inl, Sum.elim_inr] at hf
              refine j_iconst dX9_isLike_84 ?_
              replace hf := Option.some.inj hf
              subst hf
              exact j_zreturn (x := 0) (bC_mv G A) ⟨Nat.le_refl 0, Nat.le_refl 0⟩ (ty := .boolean) rfl (nar_z (Or.inl rfl)) dX9_isLike_85
            · intro q12 hf
              simp only [Sum.elim_inl, Sum.elim_inr] at hf
              refine j_iconst dX9_isLike_92 ?_
              replace hf := Option.some.inj hf
              subst hf
              exact j_zreturn (x := 1) (bC_mv G A) ⟨Nat.le_refl 0, Nat.le_refl 0⟩ (ty := .boolean) rfl (nar_z (Or.inr rfl)) dX9_isLike_93
          · replace hf := ie h13 hf
            refine j_iconst dX9_isLike_56 ?_
            replace hf := Option.some.inj hf
            subst hf
            exact j_zreturn (x := 0) (bC_mv G A) ⟨Nat.le_refl 0, Nat.le_refl 0⟩ (ty := .boolean) rfl (nar_z (Or.inl rfl)) dX9_isLike_57
theorem t6_isComparable_l25 {G : CG} {A : Nat → Prop} {l : Launch} {a : List PV} {r : Int} {Kf : (Unit) ⊕ (Unit) → Option (Int)} (v0 : Option Nat) (v1 : Option Nat) (u : Sg) (hK0 : ∀ q : Unit, Kf (.inl q) = some r → JW kC (bC G A) A l D6_isComparable a (jQ (bC G A) A a (some (pI r)) u 0 0) 0 0 u 0 0 70 [] []) (hK1 : ∀ q : Unit, Kf (.inr q) = some r → JW kC (bC G A) A l D6_isComparable a (jQ (bC G A) A a (some (pI r)) u 0 0) 0 0 u 0 0 78 [] []) : ∀ (n : Nat) (v2 : Int), ((f6_isComparable_l25 G v0 v1 u n v2).bind Kf = some r) → JW kC (bC G A) A l D6_isComparable a (jQ (bC G A) A a (some (pI r)) u 0 0) 0 0 u 0 0 25 [(0, pR v0), (1, pR v1), (2, pI v2)] [] := by
  intro n
  induction n with
  | zero => intro v2 hf; exact onb hf
  | succ n ih =>
    intro v2 hf
    unfold f6_isComparable_l25 at hf
    refine j_iload_n dX6_isComparable_25 2 rfl ?_
    refine j_aload_n dX6_isComparable_26 0 rfl ?_
    obtain ⟨x1, hx1, hf⟩ := obb hf
    refine c_geta (ci := 6) (k := 0) hx1 zcl_6 (Nat.le_of_ble_eq_true rfl) zf_X6_12 fk_240 dX6_isComparable_27 ?_
    obtain ⟨b2, hb2, hf⟩ := obb hf
    obtain ⟨eb2, tb2⟩ := ztg_s hb2
    obtain ⟨x3, hx3, hf⟩ := obb hf
    refine a_Fr (x := ix_0) [] [pI v2] (tJ2_size (some b2) u hx3) ⟨q808, q559, q561, q131, q563⟩ iF_0 df_0 rfl ⟨(Nat.le_of_ble_eq_true rfl), (Nat.le_of_ble_eq_true rfl)⟩ zcl_5 rfl tb2 (by rw [← eb2]; rfl) (Nat.le_of_ble_eq_true rfl) dX6_isComparable_30 ⟨Nat.le_refl 0, Nat.le_refl 0⟩ ?_
    refine j_icmp_ge (w32 v2) (w32 x3) rfl rfl 78 dX6_isComparable_35 (by decide) (fun h15 => ?_) (fun h15 => ?_)
    · replace hf := itb h15 hf
      exact j_sub [] _ rfl (hK1 () hf)
    · replace hf := ieb h15 hf
      refine j_aload_n dX6_isComparable_38 0 rfl ?_
      obtain ⟨x4, hx4, hf⟩ := obb hf
      refine c_geta (ci := 6) (k := 0) hx4 zcl_6 (Nat.le_of_ble_eq_true rfl) zf_X6_12 fk_240 dX6_isComparable_39 ?_
      refine j_iload_n dX6_isComparable_42 2 rfl ?_
      obtain ⟨b5, hb5, hf⟩ := obb hf
      obtain ⟨eb5, tb5⟩ := ztg_s hb5
      obtain ⟨x6, hx6, hf⟩ := obb hf
      refine a_Fr (x := ix_1) [pI v2] [] (tJ2_get (some b5) v2 u hx6) ⟨q810, q813, q815, q131, q817⟩ iF_1 df_1 rfl ⟨(Nat.le_of_ble_eq_true rfl), (Nat.le_of_ble_eq_true rfl)⟩ zcl_5 rfl tb5 (by rw [← eb5]; rfl) (Nat.le_of_ble_eq_true rfl) dX6_isComparable_43 ⟨Nat.le_refl 0, Nat.le_refl 0⟩ ?_
      obtain ⟨y7, hy7, hf⟩ := obb hf
      refine c_cast hy7 zok_Fact q828 dX6_isComparable_48 ?_
      refine j_aload_n dX6_isComparable_51 1 rfl ?_
      obtain ⟨x8, hx8, hf⟩ := obb hf
      refine c_geta (ci := 6) (k := 0) hx8 zcl_6 (Nat.le_of_ble_eq_true rfl) zf_X6_12 fk_240 dX6_isComparable_52 ?_
      refine j_iload_n dX6_isComparable_55 2 rfl ?_
      obtain ⟨b9, hb9, hf⟩ := obb hf
      obtain ⟨eb9, tb9⟩ := ztg_s hb9
      obtain ⟨x10, hx10, hf⟩ := obb hf
      refine a_Fr (x := ix_1) [pI v2] [pR x6] (tJ2_get (some b9) v2 u hx10) ⟨q810, q813, q815, q131, q817⟩ iF_1 df_1 rfl ⟨(Nat.le_of_ble_eq_true rfl), (Nat.le_of_ble_eq_true rfl)⟩ zcl_5 rfl tb9 (by rw [← eb9]; rfl) (Nat.le_of_ble_eq_true rfl) dX6_isComparable_56 ⟨Nat.le_refl 0, Nat.le_refl 0⟩ ?_
      obtain ⟨y11, hy11, hf⟩ := obb hf
      refine c_cast hy11 zok_Fact q828 dX6_isComparable_61 ?_
      obtain ⟨b12, hb12, hf⟩ := obb hf
      obtain ⟨eb12, tb12⟩ := ztg_s hb12
      obtain ⟨x13, hx13, hf⟩ := obb hf
      refine a_Vr [pR x10] [] (t9_isLike (some b12) x10 u hx13) ⟨q1355, q1356, q1357, q152, q1358⟩ dv9_isLike rfl ⟨(Nat.le_of_ble_eq_true rfl), (Nat.le_of_ble_eq_true rfl)⟩ (c_recv zcl_9 tb12) (by rw [← eb12]; rfl) (Nat.le_of_ble_eq_true rfl) dX6_isComparable_64 ⟨Nat.le_refl 0, Nat.le_refl 0⟩ ?_
      refine j_if_ne (w32 x13) rfl 72 dX6_isComparable_67 (by decide) (fun h14 => ?_) (fun h14 => ?_)
      · replace hf := ieb h14 hf
        refine j_iinc dX6_isComparable_72 2 rfl [(2, pI (v2 + 1)), (0, pR v0), (1, pR v1)] (Nat.le_of_ble_eq_true rfl) rfl ?_
        refine j_goto 25 dX6_isComparable_75 (by decide) ?_
        exact j_sub [1, 2, 0] _ rfl (ih (v2 + 1) hf)
      · replace hf := itb h14 hf
        exact j_sub [] _ rfl (hK0 () hf)
theorem t6_isComparable {G : CG} {A : Nat → Prop} {l : Launch} {r : Int} (v0 : Option Nat) (v1 : Option Nat) (u : Sg) (hf : f6_isComparable G v0 v1 u = some r) : JM kC (bC G A) A l yX6_isComparable D6_isComparable [pR v0, pR v1] u (some (pI r)) u 0 0 := by
  refine j_met (lv0 := [(0, pR v0), (1, pR v1)]) ⟨pl_X6, rfl, rfl, (Nat.le_of_ble_eq_true rfl), rfl⟩ ?_
  unfold f6_isComparable at hf
  refine j_aload_n dX6_isComparable_0 0 rfl ?_
  obtain ⟨x1, hx1, hf⟩ := ob hf
  refine c_geta (ci := 6) (k := 0) hx1 zcl_6 (Nat.le_of_ble_eq_true rfl) zf_X6_12 fk_240 dX6_isComparable_1 ?_
  obtain ⟨b2, hb2, hf⟩ := ob hf
  obtain ⟨eb2, tb2⟩ := ztg_s hb2
  obtain ⟨x3, hx3, hf⟩ := ob hf
  refine a_Fr (x := ix_0) [] [] (tJ2_size (some b2) u hx3) ⟨q808, q559, q561, q131, q563⟩ iF_0 df_0 rfl ⟨(Nat.le_of_ble_eq_true rfl), (Nat.le_of_ble_eq_true rfl)⟩ zcl_5 rfl tb2 (by rw [← eb2]; rfl) (Nat.le_of_ble_eq_true rfl) dX6_isComparable_4 ⟨Nat.le_refl 0, Nat.le_refl 0⟩ ?_
  refine j_aload_n dX6_isComparable_9 1 rfl ?_
  obtain ⟨x4, hx4, hf⟩ := ob hf
  refine c_geta (ci := 6) (k := 0) hx4 zcl_6 (Nat.le_of_ble_eq_true rfl) zf_X6_12 fk_240 dX6_isComparable_10 ?_
  obtain ⟨b5, hb5, hf⟩ := ob hf
  obtain ⟨eb5, tb5⟩ := ztg_s hb5
  obtain ⟨x6, hx6, hf⟩ := ob hf
  refine a_Fr (x := ix_0) [] [pI x3] (tJ2_size (some b5) u hx6) ⟨q808, q559, q561, q131, q563⟩ iF_0 df_0 rfl ⟨(Nat.le_of_ble_eq_true rfl), (Nat.le_of_ble_eq_true rfl)⟩ zcl_5 rfl tb5 (by rw [← eb5]; rfl) (Nat.le_of_ble_eq_true rfl) dX6_isComparable_13 ⟨Nat.le_refl 0, Nat.le_refl 0⟩ ?_
  refine j_icmp_eq (w32 x3) (w32 x6) rfl rfl 23 dX6_isComparable_18 (by decide) (fun h9 => ?_) (fun h9 => ?_)
  · replace hf := it h9 hf
    refine j_iconst dX6_isComparable_23 ?_
    refine j_istore_n dX6_isComparable_24 [(2, pI 0), (0, pR v0), (1, pR v1)] (Nat.le_of_ble_eq_true rfl) rfl ?_
    refine j_sub [1, 2, 0] _ rfl (t6_isComparable_l25 v0 v1 u ?_ ?_ NN 0 hf)
    · intro q7 hf
      simp only [Sum.elim_inl, Sum.elim_inr] at hf
      refine j_iconst dX6_isComparable_70 ?_
      replace hf := Option.some.inj hf
      subst hf
      exact j_zreturn (x := 0) (bC_mv G A) ⟨Nat.le_refl 0, Nat.le_refl 0⟩ (ty := .boolean) rfl (nar_z (Or.inl rfl)) dX6_isComparable_71
    · intro q8 hf
      simp only [Sum.elim_inl, Sum.elim_inr] at hf
      refine j_iconst dX6_isComparable_78 ?_
      replace hf := Option.some.inj hf
      subst hf
      exact j_zreturn (x := 1) (bC_mv G A) ⟨Nat.le_refl 0, Nat.le_refl 0⟩ (ty := .boolean) rfl (nar_z (Or.inr rfl)) dX6_isComparable_79
  · replace hf := ie h9 hf
    refine j_iconst dX6_isComparable_21 ?_
    replace hf := Option.some.inj hf
    subst hf
    exact j_zreturn (x := 0) (bC_mv G A) ⟨Nat.le_refl 0, Nat.le_refl 0⟩ (ty := .boolean) rfl (nar_z (Or.inl rfl)) dX6_isComparable_22
theorem t0_compare {G : CG} {A : Nat → Prop} {l : Launch} {r : Int × Sg} (v0 : Option Nat) (v1 : Int) (v2 : Int) (u : Sg) (hf : f0_compare G v0 v1 v2 u = some r) : JM kC (bC G A) A l yX0_compare D0_compare [pR v0, pI v1, pI v2] u (some (pI r.1)) r.2 0 0 := by
  refine j_met (lv0 := [(0, pR v0), (1, pI v1), (2, pI v2)]) ⟨pl_X0, rfl, rfl, (Nat.le_of_ble_eq_true rfl), rfl⟩ ?_
  unfold f0_compare at hf
  refine j_aload_n dX0_compare_0 0 rfl ?_
  refine j_iload_n dX0_compare_1 1 rfl ?_
  obtain ⟨b1, hb1, hf⟩ := ob hf
  obtain ⟨eb1, tb1⟩ := ztg_s hb1
  obtain ⟨x2, hx2, hf⟩ := ob hf
  refine a_Vr [pI v1] [] (t0_isWording (some b1) v1 u hx2) ⟨q1264, q1266, qs37, q128, q1267⟩ dv0_isWording rfl ⟨(Nat.le_of_ble_eq_true rfl), (Nat.le_of_ble_eq_true rfl)⟩ (c_recv zcl_0 tb1) (by rw [← eb1]; rfl) (Nat.le_of_ble_eq_true rfl) dX0_compare_2 ⟨Nat.le_refl 0, Nat.le_refl 0⟩ ?_
  refine j_if_eq (w32 x2) rfl 16 dX0_compare_5 (by decide) (fun h28 => ?_) (fun h28 => ?_)
  · replace hf := it h28 hf
    refine j_iconst dX0_compare_16 ?_
    replace hf := Option.some.inj hf
    subst hf
    exact j_ireturn (bC_mv G A) ⟨Nat.le_refl 0, Nat.le_refl 0⟩ rfl dX0_compare_17
  · replace hf := ie h28 hf
    refine j_aload_n dX0_compare_8 0 rfl ?_
    refine j_iload_n dX0_compare_9 2 rfl ?_
    obtain ⟨b3, hb3, hf⟩ := ob hf
    obtain ⟨eb3, tb3⟩ := ztg_s hb3
    obtain ⟨x4, hx4, hf⟩ := ob hf
    refine a_Vr [pI v2] [] (t0_isWording (some b3) v2 u hx4) ⟨q1264, q1266, qs37, q128, q1267⟩ dv0_isWording rfl ⟨(Nat.le_of_ble_eq_true rfl), (Nat.le_of_ble_eq_true rfl)⟩ (c_recv zcl_0 tb3) (by rw [← eb3]; rfl) (Nat.le_of_ble_eq_true rfl) dX0_compare_10 ⟨Nat.le_refl 0, Nat.le_refl 0⟩ ?_
    refine j_if_ne (w32 x4) rfl 18 dX0_compare_13 (by decide) (fun h27 => ?_) (fun h27 => ?_)
    · replace hf := ie h27 hf
      refine j_aload_n dX0_compare_18 0 rfl ?_
      refine j_iload_n dX0_compare_19 1 rfl ?_
      obtain ⟨b5, hb5, hf⟩ := ob hf
      obtain ⟨eb5, tb5⟩ := ztg_s hb5
      obtain ⟨x6, hx6, hf⟩ := ob hf
      refine a_Vr [pI v1] [] (t0_the (some b5) v1 u hx6) ⟨q1268, q1270, qs38, q128, q1271⟩ dv0_the rfl ⟨(Nat.le_of_ble_eq_true rfl), (Nat.le_of_ble_eq_true rfl)⟩ (c_recv zcl_0 tb5) (by rw [← eb5]; rfl) (Nat.le_of_ble_eq_true rfl) dX0_compare_20 ⟨Nat.le_refl 0, Nat.le_refl 0⟩ ?_
      refine j_aload_n dX0_compare_23 0 rfl ?_
      refine j_iload_n dX0_compare_24 2 rfl ?_
      obtain ⟨b7, hb7, hf⟩ := ob hf
      obtain ⟨eb7, tb7⟩ := ztg_s hb7
      obtain ⟨x8, hx8, hf⟩ := ob hf
      refine a_Vr [pI v2] [pR x6] (t0_the (some b7) v2 u hx8) ⟨q1268, q1270, qs38, q128, q1271⟩ dv0_the rfl ⟨(Nat.le_of_ble_eq_true rfl), (Nat.le_of_ble_eq_true rfl)⟩ (c_recv zcl_0 tb7) (by rw [← eb7]; rfl) (Nat.le_of_ble_eq_true rfl) dX0_compare_25 ⟨Nat.le_refl 0, Nat.le_refl 0⟩ ?_
      obtain ⟨b9, hb9, hf⟩ := ob hf
      obtain ⟨eb9, tb9⟩ := ztg_s hb9
      obtain ⟨x10, hx10, hf⟩ := ob hf
      refine a_Vr [pR x8] [] (t6_isComparable (some b9) x8 u hx10) ⟨q1351, q1352, q1353, q145, q1354⟩ dv6_isComparable rfl ⟨(Nat.le_of_ble_eq_true rfl), (Nat.le_of_ble_eq_true rfl)⟩ (c_recv zcl_6 tb9) (by rw [← eb9]; rfl) (Nat.le_of_ble_eq_true rfl) dX0_compare_28 ⟨Nat.le_refl 0, Nat.le_refl 0⟩ ?_
      refine j_if_ne (w32 x10) rfl 37 dX0_compare_31 (by decide) (fun h26 => ?_) (fun h26 => ?_)
      · replace hf := ie h26 hf
        refine j_aload_n dX0_compare_37 0 rfl ?_
        obtain ⟨x11, hx11, hf⟩ := ob hf
        refine c_geta (ci := 0) (k := 15) hx11 zcl_0 (Nat.le_of_ble_eq_true rfl) zf_X0_124 fk_15 dX0_compare_38 ?_
        refine j_aload_n dX0_compare_41 0 rfl ?_
        refine j_iload_n dX0_compare_42 1 rfl ?_
        obtain ⟨b12, hb12, hf⟩ := ob hf
        obtain ⟨eb12, tb12⟩ := ztg_s hb12
        obtain ⟨x13, hx13, hf⟩ := ob hf
        refine a_Vr [pI v1] [pR x11] (t0_the (some b12) v1 u hx13) ⟨q1268, q1270, qs38, q128, q1271⟩ dv0_the rfl ⟨(Nat.le_of_ble_eq_true rfl), (Nat.le_of_ble_eq_true rfl)⟩ (c_recv zcl_0 tb12) (by rw [← eb12]; rfl) (Nat.le_of_ble_eq_true rfl) dX0_compare_43 ⟨Nat.le_refl 0, Nat.le_refl 0⟩ ?_
        refine j_aload_n dX0_compare_46 0 rfl ?_
        refine j_iload_n dX0_compare_47 2 rfl ?_
        obtain ⟨b14, hb14, hf⟩ := ob hf
        obtain ⟨eb14, tb14⟩ := ztg_s hb14
        obtain ⟨x15, hx15, hf⟩ := ob hf
        refine a_Vr [pI v2] [pR x13, pR x11] (t0_the (some b14) v2 u hx15) ⟨q1268, q1270, qs38, q128, q1271⟩ dv0_the rfl ⟨(Nat.le_of_ble_eq_true rfl), (Nat.le_of_ble_eq_true rfl)⟩ (c_recv zcl_0 tb14) (by rw [← eb14]; rfl) (Nat.le_of_ble_eq_true rfl) dX0_compare_48 ⟨Nat.le_refl 0, Nat.le_refl 0⟩ ?_
        refine j_null dX0_compare_51 ?_
        obtain ⟨b16, hb16, hf⟩ := ob hf
        obtain ⟨eb16, tb16⟩ := ztg_s hb16
        obtain ⟨q17, hq17, hf⟩ := ob hf
        refine a_Vr [pR x13, pR x15, pR none] [] (t3_isParted (some b16) x13 x15 none u hq17) ⟨q1359, q1360, q1361, q134, q1362⟩ dv3_isParted rfl ⟨(Nat.le_of_ble_eq_true rfl), (Nat.le_of_ble_eq_true rfl)⟩ (c_recv zcl_3 tb16) (by rw [← eb16]; rfl) (Nat.le_of_ble_eq_true rfl) dX0_compare_52 ⟨Nat.le_refl 0, Nat.le_refl 0⟩ ?_
        refine j_if_eq (w32 q17.1) rfl 78 dX0_compare_55 (by decide) (fun h25 => ?_) (fun h25 => ?_)
        · replace hf := it h25 hf
          refine j_bipush dX0_compare_78 (by decide) ?_
          replace hf := Option.some.inj hf
          subst hf
          exact j_ireturn (bC_mv G A) ⟨Nat.le_refl 0, Nat.le_refl 0⟩ rfl dX0_compare_80
        · replace hf := ie h25 hf
          refine j_aload_n dX0_compare_58 0 rfl ?_
          obtain ⟨x18, hx18, hf⟩ := ob hf
          refine c_geta (ci := 0) (k := 15) hx18 zcl_0 (Nat.le_of_ble_eq_true rfl) zf_X0_124 fk_15 dX0_compare_59 ?_
          refine j_aload_n dX0_compare_62 0 rfl ?_
          refine j_iload_n dX0_compare_63 1 rfl ?_
          obtain ⟨b19, hb19, hf⟩ := ob hf
          obtain ⟨eb19, tb19⟩ := ztg_s hb19
          obtain ⟨x20, hx20, hf⟩ := ob hf
          refine a_Vr [pI v1] [pR x18] (t0_the (some b19) v1 q17.2 hx20) ⟨q1268, q1270, qs38, q128, q1271⟩ dv0_the rfl ⟨(Nat.le_of_ble_eq_true rfl), (Nat.le_of_ble_eq_true rfl)⟩ (c_recv zcl_0 tb19) (by rw [← eb19]; rfl) (Nat.le_of_ble_eq_true rfl) dX0_compare_64 ⟨Nat.le_refl 0, Nat.le_refl 0⟩ ?_
          refine j_aload_n dX0_compare_67 0 rfl ?_
          refine j_iload_n dX0_compare_68 2 rfl ?_
          obtain ⟨b21, hb21, hf⟩ := ob hf
          obtain ⟨eb21, tb21⟩ := ztg_s hb21
          obtain ⟨x22, hx22, hf⟩ := ob hf
          refine a_Vr [pI v2] [pR x20, pR x18] (t0_the (some b21) v2 q17.2 hx22) ⟨q1268, q1270, qs38, q128, q1271⟩ dv0_the rfl ⟨(Nat.le_of_ble_eq_true rfl), (Nat.le_of_ble_eq_true rfl)⟩ (c_recv zcl_0 tb21) (by rw [← eb21]; rfl) (Nat.le_of_ble_eq_true rfl) dX0_compare_69 ⟨Nat.le_refl 0, Nat.le_refl 0⟩ ?_
          obtain ⟨b23, hb23, hf⟩ := ob hf
          obtain ⟨eb23, tb23⟩ := ztg_s hb23
          obtain ⟨q24, hq24, hf⟩ := ob hf
          refine a_Vr [pR x20, pR x22] [] (t3_compare (some b23) x20 x22 q17.2 hq24) ⟨q1374, q1375, q1376, q134, q1377⟩ dv3_compare rfl ⟨(Nat.le_of_ble_eq_true rfl), (Nat.le_of_ble_eq_true rfl)⟩ (c_recv zcl_3 tb23) (by rw [← eb23]; rfl) (Nat.le_of_ble_eq_true rfl) dX0_compare_72 ⟨Nat.le_refl 0, Nat.le_refl 0⟩ ?_
          refine j_goto 80 dX0_compare_75 (by decide) ?_
          replace hf := Option.some.inj hf
          subst hf
          exact j_ireturn (bC_mv G A) ⟨Nat.le_refl 0, Nat.le_refl 0⟩ rfl dX0_compare_80
      · replace hf := it h26 hf
        refine j_bipush dX0_compare_34 (by decide) ?_
        replace hf := Option.some.inj hf
        subst hf
        exact j_ireturn (bC_mv G A) ⟨Nat.le_refl 0, Nat.le_refl 0⟩ rfl dX0_compare_36
    · replace hf := it h27 hf
      refine j_iconst dX0_compare_16 ?_
      replace hf := Option.some.inj hf
      subst hf
      exact j_ireturn (bC_mv G A) ⟨Nat.le_refl 0, Nat.le_refl 0⟩ rfl dX0_compare_17
theorem t0_apart {G : CG} {A : Nat → Prop} {l : Launch} {r : Int} (v0 : Option Nat) (v1 : Int) (v2 : Int) (u : Sg) (hf : f0_apart G v0 v1 v2 u = some r) : JM kC (bC G A) A l yX0_apart D0_apart [pR v0, pI v1, pI v2] u (some (pI r)) u 0 0 := by
  refine j_met (lv0 := [(0, pR v0), (1, pI v1), (2, pI v2)]) ⟨pl_X0, rfl, rfl, (Nat.le_of_ble_eq_true rfl), rfl⟩ ?_
  unfold f0_apart at hf
  refine j_iload_n dX0_apart_0 1 rfl ?_
  refine j_if_lt (w32 v1) rfl 9 dX0_apart_1 (by decide) (fun h13 => ?_) (fun h13 => ?_)
  · replace hf := it h13 hf
    refine j_iconst dX0_apart_9 ?_
    replace hf := Option.some.inj hf
    subst hf
    exact j_ireturn (bC_mv G A) ⟨Nat.le_refl 0, Nat.le_refl 0⟩ rfl dX0_apart_10
  · replace hf := ie h13 hf
    refine j_iload_n dX0_apart_4 1 rfl ?_
    refine j_iconst dX0_apart_5 ?_
    refine j_icmp_le (w32 v1) 1 rfl rfl 11 dX0_apart_6 (by decide) (fun h12 => ?_) (fun h12 => ?_)
    · replace hf := it h12 hf
      refine j_aload_n dX0_apart_11 0 rfl ?_
      obtain ⟨x1, hx1, hf⟩ := ob hf
      refine c_geta (ci := 0) (k := 15) hx1 zcl_0 (Nat.le_of_ble_eq_true rfl) zf_X0_124 fk_15 dX0_apart_12 ?_
      obtain ⟨x2, hx2, hf⟩ := ob hf
      refine c_getaN (ci := 3) (k := 4) hx2 zcl_3 (Nat.le_of_ble_eq_true rfl) zf_X0_295 fk_124 dX0_apart_15 ?_
      refine j_iload_n dX0_apart_18 1 rfl ?_
      obtain ⟨x3, hx3, hf⟩ := ob hf
      refine c_zald hx3 dX0_apart_19 ?_
      refine j_if_ne (w32 x3) rfl 26 dX0_apart_20 (by decide) (fun h11 => ?_) (fun h11 => ?_)
      · replace hf := ie h11 hf
        refine j_iload_n dX0_apart_26 2 rfl ?_
        refine j_if_lt (w32 v2) rfl 41 dX0_apart_27 (by decide) (fun h10 => ?_) (fun h10 => ?_)
        · replace hf := it h10 hf
          refine j_iconst dX0_apart_41 ?_
          refine j_goto 59 dX0_apart_42 (by decide) ?_
          replace hf := Option.some.inj hf
          subst hf
          exact j_ireturn (bC_mv G A) ⟨Nat.le_refl 0, Nat.le_refl 0⟩ rfl dX0_apart_59
        · replace hf := ie h10 hf
          refine j_iload_n dX0_apart_30 2 rfl ?_
          refine j_aload_n dX0_apart_31 0 rfl ?_
          obtain ⟨x4, hx4, hf⟩ := ob hf
          refine c_geta (ci := 0) (k := 15) hx4 zcl_0 (Nat.le_of_ble_eq_true rfl) zf_X0_124 fk_15 dX0_apart_32 ?_
          obtain ⟨x5, hx5, hf⟩ := ob hf
          refine c_getiN (ci := 3) (k := 5) hx5 zcl_3 (Nat.le_of_ble_eq_true rfl) zf_X0_299 fk_125 dX0_apart_35 ?_
          refine j_icmp_lt (w32 v2) (w32 x5) rfl rfl 45 dX0_apart_38 (by decide) (fun h9 => ?_) (fun h9 => ?_)
          · replace hf := it h9 hf
            refine j_aload_n dX0_apart_45 0 rfl ?_
            obtain ⟨x6, hx6, hf⟩ := ob hf
            refine c_geta (ci := 0) (k := 15) hx6 zcl_0 (Nat.le_of_ble_eq_true rfl) zf_X0_124 fk_15 dX0_apart_46 ?_
            obtain ⟨x7, hx7, hf⟩ := ob hf
            refine c_getaN (ci := 3) (k := 3) hx7 zcl_3 (Nat.le_of_ble_eq_true rfl) zf_X0_302 fk_123 dX0_apart_49 ?_
            refine j_bipush dX0_apart_52 (by decide) ?_
            refine j_iload_n dX0_apart_54 1 rfl ?_
            refine j_imul dX0_apart_55 ?_
            refine j_iload_n dX0_apart_56 2 rfl ?_
            refine j_iadd dX0_apart_57 ?_
            obtain ⟨x8, hx8, hf⟩ := ob hf
            refine c_iald hx8 dX0_apart_58 ?_
            replace hf := Option.some.inj hf
            subst hf
            exact j_ireturn (bC_mv G A) ⟨Nat.le_refl 0, Nat.le_refl 0⟩ rfl dX0_apart_59
          · replace hf := ie h9 hf
            refine j_iconst dX0_apart_41 ?_
            refine j_goto 59 dX0_apart_42 (by decide) ?_
            replace hf := Option.some.inj hf
            subst hf
            exact j_ireturn (bC_mv G A) ⟨Nat.le_refl 0, Nat.le_refl 0⟩ rfl dX0_apart_59
      · replace hf := it h11 hf
        refine j_bipush dX0_apart_23 (by decide) ?_
        replace hf := Option.some.inj hf
        subst hf
        exact j_ireturn (bC_mv G A) ⟨Nat.le_refl 0, Nat.le_refl 0⟩ rfl dX0_apart_25
    · replace hf := ie h12 hf
      refine j_iconst dX0_apart_9 ?_
      replace hf := Option.some.inj hf
      subst hf
      exact j_ireturn (bC_mv G A) ⟨Nat.le_refl 0, Nat.le_refl 0⟩ rfl dX0_apart_10
theorem t3_judge_l16 {G : CG} {A : Nat → Prop} {l : Launch} {a : List PV} {r : Int × Sg} {Kf : Sg → Option (Int × Sg)} (v0 : Option Nat) (v1 : Option Nat) (v2 : Int) (v3 : Option Nat) (hK0 : ∀ q : Sg, Kf q = some r → JW kC (bC G A) A l D3_judge a (jQ (bC G A) A a (some (pI r.1)) r.2 0 0) 0 0 q 0 0 124 [(0, pR v0), (2, pI v2)] []) : ∀ (n : Nat) (v4 : Int) (u : Sg), ((f3_judge_l16 G v0 v1 v2 v3 n v4 u).bind Kf = some r) → JW kC (bC G A) A l D3_judge a (jQ (bC G A) A a (some (pI r.1)) r.2 0 0) 0 0 u 0 0 16 [(0, pR v0), (1, pR v1), (2, pI v2), (3, pR v3), (4, pI v4)] [] := by
  intro n
  induction n with
  | zero => intro v4 u hf; exact onb hf
  | succ n ih =>
    intro v4 u hf
    unfold f3_judge_l16 at hf
    refine j_iload dX3_judge_16 4 rfl ?_
    refine j_i2l dX3_judge_18 ?_
    refine j_aload_n dX3_judge_19 0 rfl ?_
    obtain ⟨x1, hx1, hf⟩ := obb hf
    refine c_getl (ci := 3) (k := 2) hx1 zcl_3 (Nat.le_of_ble_eq_true rfl) zf_X3_56 fk_122 dX3_judge_20 ?_
    refine j_lc_ge 124 dX3_judge_23 dX3_judge_24 (by decide) (fun h27 => ?_) (fun h27 => ?_)
    · replace hf := itb h27 hf
      exact j_sub [0, 2] _ rfl (hK0 u hf)
    · replace hf := ieb h27 hf
      refine j_aload_n dX3_judge_27 0 rfl ?_
      obtain ⟨x2, hx2, hf⟩ := obb hf
      refine c_geti (ci := 3) (k := 7) hx2 zcl_3 (Nat.le_of_ble_eq_true rfl) zf_X3_118 fk_127 dX3_judge_28 ?_
      refine j_if_ne (w32 x2) rfl 124 dX3_judge_31 (by decide) (fun h26 => ?_) (fun h26 => ?_)
      · replace hf := ieb h26 hf
        exact j_sub [0, 2] _ rfl (hK0 u hf)
      · replace hf := itb h26 hf
        refine j_aload_n dX3_judge_34 0 rfl ?_
        refine j_iload dX3_judge_35 4 rfl ?_
        obtain ⟨b3, hb3, hf⟩ := obb hf
        obtain ⟨eb3, tb3⟩ := ztg_s hb3
        obtain ⟨u4, hu4, hf⟩ := obb hf
        refine a_Vv [pI v4] [] (t3_way (some b3) v4 u hu4) ⟨q1378, q1379, q1380, q134, q1381⟩ dv3_way rfl ⟨(Nat.le_of_ble_eq_true rfl), (Nat.le_of_ble_eq_true rfl)⟩ (c_recv zcl_3 tb3) (by rw [← eb3]; rfl) (Nat.le_of_ble_eq_true rfl) dX3_judge_37 ⟨Nat.le_refl 0, Nat.le_refl 0⟩ ?_
        refine j_aload_n dX3_judge_40 1 rfl ?_
        refine j_aload_n dX3_judge_41 0 rfl ?_
        obtain ⟨x5, hx5, hf⟩ := obb hf
        refine c_geta (ci := 3) (k := 9) hx5 zcl_3 (Nat.le_of_ble_eq_true rfl) zf_X3_3 fk_129 dX3_judge_42 ?_
        obtain ⟨x6, hx6, hf⟩ := obb hf
        refine c_getaN (ci := 0) (k := 13) hx6 zcl_0 (Nat.le_of_ble_eq_true rfl) zf_X3_89 fk_13 dX3_judge_45 ?_
        obtain ⟨b7, hb7, hf⟩ := obb hf
        obtain ⟨eb7, tb7⟩ := ztg_s hb7
        obtain ⟨u8, hu8, hf⟩ := obb hf
        refine a_Vv [pR x6] [] (t6_mean (some b7) x6 u4 hu8) ⟨q1413, q1210, q1211, q145, q1212⟩ dv6_mean rfl ⟨(Nat.le_of_ble_eq_true rfl), (Nat.le_of_ble_eq_true rfl)⟩ (c_recv zcl_6 tb7) (by rw [← eb7]; rfl) (Nat.le_of_ble_eq_true rfl) dX3_judge_48 ⟨Nat.le_refl 0, Nat.le_refl 0⟩ ?_
        refine j_aload_n dX3_judge_51 3 rfl ?_
        refine j_aload_n dX3_judge_52 0 rfl ?_
        obtain ⟨x9, hx9, hf⟩ := obb hf
        refine c_geta (ci := 3) (k := 9) hx9 zcl_3 (Nat.le_of_ble_eq_true rfl) zf_X3_3 fk_129 dX3_judge_53 ?_
        obtain ⟨x10, hx10, hf⟩ := obb hf
        refine c_getaN (ci := 0) (k := 13) hx10 zcl_0 (Nat.le_of_ble_eq_true rfl) zf_X3_89 fk_13 dX3_judge_56 ?_
        obtain ⟨x11, hx11, hf⟩ := obb hf
        refine (tv_isTrue DD v3 x10 u8 x11 hx11) _ _ _ _ _ _ _ _ _ _ [] _ [pI x11] q1414 (Nat.le_of_ble_eq_true rfl) (Nat.le_of_ble_eq_true rfl) rfl rfl (Nat.le_of_ble_eq_true rfl) dX3_judge_59 ⟨Nat.le_refl 0, Nat.le_refl 0⟩ ?_
        refine j_if_ne (w32 x11) rfl 68 dX3_judge_62 (by decide) (fun h25 => ?_) (fun h25 => ?_)
        · replace hf := ieb h25 hf
          refine j_aload_n dX3_judge_68 1 rfl ?_
          obtain ⟨x12, hx12, hf⟩ := obb hf
          refine c_getaN (ci := 6) (k := 12) hx12 zcl_6 (Nat.le_of_ble_eq_true rfl) zf_X3_107 fk_252 dX3_judge_69 ?_
          refine j_aload_n dX3_judge_72 1 rfl ?_
          refine j_aload_n dX3_judge_73 0 rfl ?_
          obtain ⟨x13, hx13, hf⟩ := obb hf
          refine c_geta (ci := 3) (k := 9) hx13 zcl_3 (Nat.le_of_ble_eq_true rfl) zf_X3_3 fk_129 dX3_judge_74 ?_
          obtain ⟨x14, hx14, hf⟩ := obb hf
          refine c_getaN (ci := 0) (k := 13) hx14 zcl_0 (Nat.le_of_ble_eq_true rfl) zf_X3_89 fk_13 dX3_judge_77 ?_
          obtain ⟨b15, hb15, hf⟩ := obb hf
          obtain ⟨eb15, tb15⟩ := ztg_s hb15
          obtain ⟨x16, hx16, hf⟩ := obb hf
          refine a_Vr [pR x14] [pR x12] (t6_number (some b15) x14 u8 hx16) ⟨q1382, q1383, q1384, q145, q1385⟩ dv6_number rfl ⟨(Nat.le_of_ble_eq_true rfl), (Nat.le_of_ble_eq_true rfl)⟩ (c_recv zcl_6 tb15) (by rw [← eb15]; rfl) (Nat.le_of_ble_eq_true rfl) dX3_judge_80 ⟨Nat.le_refl 0, Nat.le_refl 0⟩ ?_
          obtain ⟨x17, hx17, hf⟩ := obb hf
          refine c_bald hx17 dX3_judge_83 ?_
          refine j_istore dX3_judge_84 [(5, pI x17), (0, pR v0), (1, pR v1), (2, pI v2), (3, pR v3), (4, pI v4)] (Nat.le_of_ble_eq_true rfl) rfl ?_
          refine j_aload_n dX3_judge_86 1 rfl ?_
          refine j_iload_n dX3_judge_87 3 rfl ?_
          refine j_if_ne (w32 v2) rfl 104 dX3_judge_88 (by decide) (fun h24 => ?_) (fun h24 => ?_)
          · replace hf := ieb h24 hf
            refine j_iload dX3_judge_104 0 rfl ?_
            refine j_iconst dX3_judge_106 ?_
            refine j_icmp_ne (w32 x17) 1 rfl rfl 114 dX3_judge_107 (by decide) (fun h20 => ?_) (fun h20 => ?_)
            · replace hf := ieb h20 hf
              refine j_iconst dX3_judge_114 ?_
              obtain ⟨u18, hu18, hf⟩ := obb hf
              refine c_puti (ci := 3) (k := 7) hu18 zcl_3 (Nat.le_of_ble_eq_true rfl) zf_X3_118 fk_127 rfl (fits_Z (Or.inl rfl)) dX3_judge_115 ?_
              refine j_iinc dX3_judge_118 5 rfl [(4, pI (v4 + 1)), (5, pI x17), (0, pR v0), (1, pR v1), (2, pI v2), (3, pR v3)] (Nat.le_of_ble_eq_true rfl) rfl ?_
              refine j_goto 16 dX3_judge_121 (by decide) ?_
              exact j_sub [2, 3, 4, 5, 0] _ rfl (ih (v4 + 1) u18 hf)
            · replace hf := itb h20 hf
              refine j_iconst dX3_judge_110 ?_
              refine j_goto 115 dX3_judge_111 (by decide) ?_
              obtain ⟨u19, hu19, hf⟩ := obb hf
              refine c_puti (ci := 3) (k := 7) hu19 zcl_3 (Nat.le_of_ble_eq_true rfl) zf_X3_118 fk_127 rfl (fits_Z (Or.inr rfl)) dX3_judge_115 ?_
              refine j_iinc dX3_judge_118 5 rfl [(4, pI (v4 + 1)), (5, pI x17), (0, pR v0), (1, pR v1), (2, pI v2), (3, pR v3)] (Nat.le_of_ble_eq_true rfl) rfl ?_
              refine j_goto 16 dX3_judge_121 (by decide) ?_
              exact j_sub [2, 3, 4, 5, 0] _ rfl (ih (v4 + 1) u19 hf)
          · replace hf := itb h24 hf
            refine j_iload dX3_judge_91 0 rfl ?_
            refine j_if_ne (w32 x17) rfl 100 dX3_judge_93 (by decide) (fun h23 => ?_) (fun h23 => ?_)
            · replace hf := ieb h23 hf
              refine j_iconst dX3_judge_100 ?_
              refine j_goto 115 dX3_judge_101 (by decide) ?_
              obtain ⟨u21, hu21, hf⟩ := obb hf
              refine c_puti (ci := 3) (k := 7) hu21 zcl_3 (Nat.le_of_ble_eq_true rfl) zf_X3_118 fk_127 rfl (fits_Z (Or.inl rfl)) dX3_judge_115 ?_
              refine j_iinc dX3_judge_118 5 rfl [(4, pI (v4 + 1)), (5, pI x17), (0, pR v0), (1, pR v1), (2, pI v2), (3, pR v3)] (Nat.le_of_ble_eq_true rfl) rfl ?_
              refine j_goto 16 dX3_judge_121 (by decide) ?_
              exact j_sub [2, 3, 4, 5, 0] _ rfl (ih (v4 + 1) u21 hf)
            · replace hf := itb h23 hf
              refine j_iconst dX3_judge_96 ?_
              refine j_goto 115 dX3_judge_97 (by decide) ?_
              obtain ⟨u22, hu22, hf⟩ := obb hf
              refine c_puti (ci := 3) (k := 7) hu22 zcl_3 (Nat.le_of_ble_eq_true rfl) zf_X3_118 fk_127 rfl (fits_Z (Or.inr rfl)) dX3_judge_115 ?_
              refine j_iinc dX3_judge_118 5 rfl [(4, pI (v4 + 1)), (5, pI x17), (0, pR v0), (1, pR v1), (2, pI v2), (3, pR v3)] (Nat.le_of_ble_eq_true rfl) rfl ?_
              refine j_goto 16 dX3_judge_121 (by decide) ?_
              exact j_sub [2, 3, 4, 5, 0] _ rfl (ih (v4 + 1) u22 hf)
        · replace hf := itb h25 hf
          refine j_goto 118 dX3_judge_65 (by decide) ?_
          refine j_iinc dX3_judge_118 4 rfl [(4, pI (v4 + 1)), (0, pR v0), (1, pR v1), (2, pI v2), (3, pR v3)] (Nat.le_of_ble_eq_true rfl) rfl ?_
          refine j_goto 16 dX3_judge_121 (by decide) ?_
          exact j_sub [1, 2, 3, 4, 0] _ rfl (ih (v4 + 1) u8 hf)
theorem t3_judge_l127 {G : CG} {A : Nat → Prop} {l : Launch} {a : List PV} {r : Int × Sg} {Kf : Sg → Option (Int × Sg)} (v0 : Option Nat) (v2 : Int) (hK0 : ∀ q : Sg, Kf q = some r → JW kC (bC G A) A l D3_judge a (jQ (bC G A) A a (some (pI r.1)) r.2 0 0) 0 0 q 0 0 169 [(0, pR v0), (2, pI v2)] []) : ∀ (n : Nat) (v4 : Int) (u : Sg), ((f3_judge_l127 G v0 v2 n v4 u).bind Kf = some r) → JW kC (bC G A) A l D3_judge a (jQ (bC G A) A a (some (pI r.1)) r.2 0 0) 0 0 u 0 0 127 [(0, pR v0), (2, pI v2), (4, pI v4)] [] := by
  intro n
  induction n with
  | zero => intro v4 u hf; exact onb hf
  | succ n ih =>
    intro v4 u hf
    unfold f3_judge_l127 at hf
    refine j_iload dX3_judge_127 2 rfl ?_
    refine j_aload_n dX3_judge_129 0 rfl ?_
    obtain ⟨x1, hx1, hf⟩ := obb hf
    refine c_geti (ci := 3) (k := 1) hx1 zcl_3 (Nat.le_of_ble_eq_true rfl) zf_X3_53 fk_121 dX3_judge_130 ?_
    refine j_icmp_ge (w32 v4) (w32 x1) rfl rfl 169 dX3_judge_133 (by decide) (fun h10 => ?_) (fun h10 => ?_)
    · replace hf := itb h10 hf
      exact j_sub [0, 1] _ rfl (hK0 u hf)
    · replace hf := ieb h10 hf
      refine j_aload_n dX3_judge_136 0 rfl ?_
      obtain ⟨x2, hx2, hf⟩ := obb hf
      refine c_geti (ci := 3) (k := 7) hx2 zcl_3 (Nat.le_of_ble_eq_true rfl) zf_X3_118 fk_127 dX3_judge_137 ?_
      refine j_if_eq (w32 x2) rfl 169 dX3_judge_140 (by decide) (fun h9 => ?_) (fun h9 => ?_)
      · replace hf := itb h9 hf
        exact j_sub [0, 1] _ rfl (hK0 u hf)
      · replace hf := ieb h9 hf
        refine j_aload_n dX3_judge_143 0 rfl ?_
        obtain ⟨x3, hx3, hf⟩ := obb hf
        refine c_geta (ci := 3) (k := 6) hx3 zcl_3 (Nat.le_of_ble_eq_true rfl) zf_X3_30 fk_126 dX3_judge_144 ?_
        refine j_iload dX3_judge_147 2 rfl ?_
        refine j_aload_n dX3_judge_149 0 rfl ?_
        obtain ⟨x4, hx4, hf⟩ := obb hf
        refine c_geta (ci := 3) (k := 9) hx4 zcl_3 (Nat.le_of_ble_eq_true rfl) zf_X3_3 fk_129 dX3_judge_150 ?_
        obtain ⟨x5, hx5, hf⟩ := obb hf
        refine c_getaN (ci := 0) (k := 13) hx5 zcl_0 (Nat.le_of_ble_eq_true rfl) zf_X3_89 fk_13 dX3_judge_153 ?_
        obtain ⟨x6, hx6, hf⟩ := obb hf
        refine c_getaN (ci := 1) (k := 0) hx6 zcl_1 (Nat.le_of_ble_eq_true rfl) zf_X3_93 fk_40 dX3_judge_156 ?_
        refine j_iload dX3_judge_159 2 rfl ?_
        obtain ⟨x7, hx7, hf⟩ := obb hf
        refine c_iald hx7 dX3_judge_161 ?_
        obtain ⟨u8, hu8, hf⟩ := obb hf
        refine c_iast hu8 dX3_judge_162 ?_
        refine j_iinc dX3_judge_163 2 rfl [(4, pI (v4 + 1)), (0, pR v0), (2, pI v2)] (Nat.le_of_ble_eq_true rfl) rfl ?_
        refine j_goto 127 dX3_judge_166 (by decide) ?_
        exact j_sub [1, 2, 0] _ rfl (ih (v4 + 1) u8 hf)
theorem t3_judge_b183 {G : CG} {A : Nat → Prop} {l : Launch} {a : List PV} {r : Int × Sg} (s0 : Int) (s1 : Int) (u : Sg) (hf : f3_judge_b183 G s0 s1 u = some r) : JW kC (bC G A) A l D3_judge a (jQ (bC G A) A a (some (pI r.1)) r.2 0 0) 0 0 u 0 0 183 [] [pI s1, pI s0] := by
  unfold f3_judge_b183 at hf
  refine j_icmp_ne (w32 s0) (w32 s1) rfl rfl 190 dX3_judge_183 (by decide) (fun h1 => ?_) (fun h1 => ?_)
  · replace hf := ie h1 hf
    refine j_iconst dX3_judge_190 ?_
    replace hf := Option.some.inj hf
    subst hf
    exact j_ireturn (bC_mv G A) ⟨Nat.le_refl 0, Nat.le_refl 0⟩ rfl dX3_judge_191
  · replace hf := it h1 hf
    refine j_iconst dX3_judge_186 ?_
    refine j_goto 191 dX3_judge_187 (by decide) ?_
    replace hf := Option.some.inj hf
    subst hf
    exact j_ireturn (bC_mv G A) ⟨Nat.le_refl 0, Nat.le_refl 0⟩ rfl dX3_judge_191
theorem t3_judge_b169 {G : CG} {A : Nat → Prop} {l : Launch} {a : List PV} {r : Int × Sg} (v0 : Option Nat) (v2 : Int) (u : Sg) (hf : f3_judge_b169 G v0 v2 u = some r) : JW kC (bC G A) A l D3_judge a (jQ (bC G A) A a (some (pI r.1)) r.2 0 0) 0 0 u 0 0 169 [(0, pR v0), (2, pI v2)] [] := by
  unfold f3_judge_b169 at hf
  refine j_aload_n dX3_judge_169 0 rfl ?_
  obtain ⟨x1, hx1, hf⟩ := ob hf
  refine c_geti (ci := 3) (k := 7) hx1 zcl_3 (Nat.le_of_ble_eq_true rfl) zf_X3_118 fk_127 dX3_judge_170 ?_
  refine j_iload_n dX3_judge_173 1 rfl ?_
  refine j_iconst dX3_judge_174 ?_
  refine j_icmp_ne (w32 v2) 2 rfl rfl 182 dX3_judge_175 (by decide) (fun h2 => ?_) (fun h2 => ?_)
  · replace hf := ie h2 hf
    refine j_iconst dX3_judge_182 ?_
    exact j_sub [] _ rfl (t3_judge_b183 x1 0 u hf)
  · replace hf := it h2 hf
    refine j_iconst dX3_judge_178 ?_
    refine j_goto 183 dX3_judge_179 (by decide) ?_
    exact j_sub [] _ rfl (t3_judge_b183 x1 1 u hf)
theorem t3_judge_b124 {G : CG} {A : Nat → Prop} {l : Launch} {a : List PV} {r : Int × Sg} (v0 : Option Nat) (v2 : Int) (u : Sg) (hf : f3_judge_b124 G v0 v2 u = some r) : JW kC (bC G A) A l D3_judge a (jQ (bC G A) A a (some (pI r.1)) r.2 0 0) 0 0 u 0 0 124 [(0, pR v0), (2, pI v2)] [] := by
  unfold f3_judge_b124 at hf
  refine j_iconst dX3_judge_124 ?_
  refine j_istore dX3_judge_125 [(4, pI 0), (0, pR v0), (2, pI v2)] (Nat.le_of_ble_eq_true rfl) rfl ?_
  refine j_sub [1, 2, 0] _ rfl (t3_judge_l127 v0 v2 ?_ NN 0 u hf)
  · intro q1 hf
    exact j_sub [0, 1] _ rfl (t3_judge_b169 v0 v2 q1 hf)
theorem t3_judge {G : CG} {A : Nat → Prop} {l : Launch} {r : Int × Sg} (v0 : Option Nat) (v1 : Option Nat) (v2 : Int) (v3 : Option Nat) (u : Sg) (hf : f3_judge G v0 v1 v2 v3 u = some r) : JM kC (bC G A) A l yX3_judge D3_judge [pR v0, pR v1, pI v2, pR v3] u (some (pI r.1)) r.2 0 0 := by
  refine j_met (lv0 := [(0, pR v0), (1, pR v1), (2, pI v2), (3, pR v3)]) ⟨pl_X3, rfl, rfl, (Nat.le_of_ble_eq_true rfl), rfl⟩ ?_
  unfold f3_judge at hf
  refine j_aload_n dX3_judge_0 0 rfl ?_
  refine j_iconst dX3_judge_1 ?_
  obtain ⟨u1, hu1, hf⟩ := ob hf
  refine c_puti (ci := 3) (k := 7) hu1 zcl_3 (Nat.le_of_ble_eq_true rfl) zf_X3_118 fk_127 rfl (fits_Z (Or.inl rfl)) dX3_judge_2 ?_
  refine j_aload_n dX3_judge_5 0 rfl ?_
  refine j_aload_n dX3_judge_6 0 rfl ?_
  obtain ⟨x2, hx2, hf⟩ := ob hf
  refine c_geti (ci := 3) (k := 1) hx2 zcl_3 (Nat.le_of_ble_eq_true rfl) zf_X3_53 fk_121 dX3_judge_7 ?_
  obtain ⟨u3, hu3, hf⟩ := ob hf
  refine c_puti (ci := 3) (k := 8) hu3 zcl_3 (Nat.le_of_ble_eq_true rfl) zf_X3_122 fk_128 rfl fits_I dX3_judge_10 ?_
  refine j_iconst dX3_judge_13 ?_
  refine j_istore dX3_judge_14 [(4, pI 0), (0, pR v0), (1, pR v1), (2, pI v2), (3, pR v3)] (Nat.le_of_ble_eq_true rfl) rfl ?_
  refine j_sub [1, 2, 3, 4, 0] _ rfl (t3_judge_l16 v0 v1 v2 v3 ?_ NN 0 u3 hf)
  · intro q4 hf
    exact j_sub [0, 1] _ rfl (t3_judge_b124 v0 v2 q4 hf)
theorem t7_law_b43 {G : CG} {A : Nat → Prop} {l : Launch} {a : List PV} {mc ms ce sl : Nat} (hfl : l.stackTraces = false) {r : (Nat ⊕ (Int)) × Sg} {c0 n0 : Nat} (v0 : Option Nat) (s0 : Int) (u : Sg) (hcs : ce + c0 ≤ mc ∧ sl + n0 ≤ ms) (hf : f7_law_b43 G v0 s0 u = some (r, c0, n0)) : JW kC (bC G A) A l D7_law a (tQQ yX7_law G A a (omI r.1) r.2 mc ms) mc ms u ce sl 43 [(0, pR v0)] [pI s0] := by
  unfold f7_law_b43 at hf
  refine j_istore_n dX7_law_43 [(1, pI s0), (0, pR v0)] (Nat.le_of_ble_eq_true rfl) rfl ?_
  refine j_iload_n dX7_law_44 0 rfl ?_
  refine j_if_ge (w32 s0) rfl 61 dX7_law_45 (by decide) (fun h18 => ?_) (fun h18 => ?_)
  · replace hf := it h18 hf
    refine j_aload_n dX7_law_61 1 rfl ?_
    obtain ⟨b1, hb1, hf⟩ := ob hf
    obtain ⟨eb1, tb1⟩ := ztg_s hb1
    obtain ⟨q2, kq2, mq2, k_q2, m_q2, hq2, hf, hkq2, hmq2⟩ := bdU_s hf
    obtain ⟨hczq2, hcs⟩ := hcs_step hcs hkq2 hmq2
    have hMq2 := t7_next (A := A) hfl (some b1) u hq2
    rcases zq2 : q2.1 with e3 | x4
    · rw [zq2] at hf hMq2
      replace hf := telL hf
      obtain ⟨ht, hr⟩ := xth_s hf
      rw [hr]
      exact x_callV [] [] _ hMq2 ⟨q647, q649, qs3, q146, q650⟩ dv7_next rfl ⟨(Nat.le_of_ble_eq_true rfl), (Nat.le_of_ble_eq_true rfl)⟩ (c_recv zcl_7 tb1) (by rw [← eb1]; rfl) (Nat.le_of_ble_eq_true rfl) dX7_law_62 hczq2 ht q1405
    · rw [zq2] at hf hMq2
      replace hf := telR hf
      refine t_callV [] [] _ hMq2 ⟨q647, q649, qs3, q146, q650⟩ dv7_next rfl ⟨(Nat.le_of_ble_eq_true rfl), (Nat.le_of_ble_eq_true rfl)⟩ (c_recv zcl_7 tb1) (by rw [← eb1]; rfl) (Nat.le_of_ble_eq_true rfl) dX7_law_62 hczq2 ?_
      refine j_aload_n dX7_law_65 1 rfl ?_
      obtain ⟨x5, hx5, hf⟩ := ob hf
      refine c_geta (ci := 7) (k := 10) hx5 zcl_7 (Nat.le_of_ble_eq_true rfl) zf_X7_3 fk_290 dX7_law_66 ?_
      refine j_aload_n dX7_law_69 1 rfl ?_
      obtain ⟨b6, hb6, hf⟩ := ob hf
      obtain ⟨eb6, tb6⟩ := ztg_s hb6
      obtain ⟨q7, kq7, mq7, k_q7, m_q7, hq7, hf, hkq7, hmq7⟩ := bdU_s hf
      obtain ⟨hczq7, hcs⟩ := hcs_step hcs hkq7 hmq7
      have hMq7 := (tr_all (A := A) hfl 100).1 (some b6) q2.2 q7 kq7 mq7 hq7
      rcases zq7 : q7.1 with e8 | x9
      · rw [zq7] at hf hMq7
        replace hf := telL hf
        obtain ⟨ht, hr⟩ := xth_s hf
        rw [hr]
        exact x_callV [] [pR x5] _ hMq7 ⟨q910, q912, qs21, q146, q913⟩ dv7_cond rfl ⟨(Nat.le_of_ble_eq_true rfl), (Nat.le_of_ble_eq_true rfl)⟩ (c_recv zcl_7 tb6) (by rw [← eb6]; rfl) (Nat.le_of_ble_eq_true rfl) dX7_law_70 hczq7 ht q1405
      · rw [zq7] at hf hMq7
        replace hf := telR hf
        refine t_callV [] [pR x5] _ hMq7 ⟨q910, q912, qs21, q146, q913⟩ dv7_cond rfl ⟨(Nat.le_of_ble_eq_true rfl), (Nat.le_of_ble_eq_true rfl)⟩ (c_recv zcl_7 tb6) (by rw [← eb6]; rfl) (Nat.le_of_ble_eq_true rfl) dX7_law_70 hczq7 ?_
        obtain ⟨u10, hu10, hf⟩ := ob hf
        refine c_putaN (ci := 0) (k := 4) hu10 zcl_0 (Nat.le_of_ble_eq_true rfl) zf_X7_377 fk_4 rfl fits_O dX7_law_73 ?_
        refine j_aload_n dX7_law_76 1 rfl ?_
        refine j_iconst dX7_law_77 ?_
        obtain ⟨b11, hb11, hf⟩ := ob hf
        obtain ⟨eb11, tb11⟩ := ztg_s hb11
        obtain ⟨q12, kq12, mq12, k_q12, m_q12, hq12, hf, hkq12, hmq12⟩ := bdU_s hf
        obtain ⟨hczq12, hcs⟩ := hcs_step hcs hkq12 hmq12
        have hMq12 := t7_wantKind (A := A) hfl (some b11) 0 u10 hq12
        rcases zq12 : q12.1 with e13 | x14
        · rw [zq12] at hf hMq12
          replace hf := telL hf
          obtain ⟨ht, hr⟩ := xth_s hf
          rw [hr]
          exact x_callV [pI 0] [] _ hMq12 ⟨q799, q801, qs15, q146, q802⟩ dv7_wantKind rfl ⟨(Nat.le_of_ble_eq_true rfl), (Nat.le_of_ble_eq_true rfl)⟩ (c_recv zcl_7 tb11) (by rw [← eb11]; rfl) (Nat.le_of_ble_eq_true rfl) dX7_law_78 hczq12 ht q1405
        · rw [zq12] at hf hMq12
          replace hf := telR hf
          refine t_callV [pI 0] [] _ hMq12 ⟨q799, q801, qs15, q146, q802⟩ dv7_wantKind rfl ⟨(Nat.le_of_ble_eq_true rfl), (Nat.le_of_ble_eq_true rfl)⟩ (c_recv zcl_7 tb11) (by rw [← eb11]; rfl) (Nat.le_of_ble_eq_true rfl) dX7_law_78 hczq12 ?_
          refine j_iload_n dX7_law_81 0 rfl ?_
          replace hf := retU hf
          subst hf
          exact t_ofret (j_ireturn (bC_mv G A) (hcs_ret (x := ()) (r := ()) hcs) rfl dX7_law_82)
  · replace hf := ie h18 hf
    obtain ⟨q15, kq15, mq15, k_q15, m_q15, hq15, hf, hkq15, hmq15⟩ := bdU_s hf
    obtain ⟨hczq15, hcs⟩ := hcs_step hcs hkq15 hmq15
    refine c_new (ci := 8) hq15 zcl_8 zmk_8 q667 dX7_law_48 hczq15 ?_
    refine j_dup dX7_law_51 rfl ?_
    refine j_iconst dX7_law_52 ?_
    refine j_aload_n dX7_law_53 1 rfl ?_
    obtain ⟨x16, hx16, hf⟩ := ob hf
    refine c_geti (ci := 7) (k := 2) hx16 zcl_7 (Nat.le_of_ble_eq_true rfl) zf_X7_43 fk_282 dX7_law_54 ?_
    obtain ⟨u17, hu17, hf⟩ := ob hf
    refine c_callI [pI 2, pI x16] [pR (some q15.1)] _ (t8_init hfl (some q15.1) 2 x16 q15.2 hu17) ⟨q706, q707, q150, q708, rfl, rfl⟩ dv8_init rfl ⟨(Nat.le_of_ble_eq_true rfl), (Nat.le_of_ble_eq_true rfl)⟩ rfl (Nat.le_of_ble_eq_true rfl) dX7_law_57 (hcs_ret (x := ()) (r := ()) hcs) ?_
    obtain ⟨ht, hr⟩ := xth_s hf
    rw [hr]
    exact t_athrow ht q1405 (hcs_ret (x := ()) (r := ()) hcs) dX7_law_60
theorem t7_law {G : CG} {A : Nat → Prop} {l : Launch} (hfl : l.stackTraces = false) {r : (Nat ⊕ (Int)) × Sg} {c0 n0 : Nat} (v0 : Option Nat) (u : Sg) (hf : f7_law G v0 u = some (r, c0, n0)) : JMT G A l yX7_law D7_law [pR v0] u (omI r.1) r.2 c0 n0 := by
  refine t_met (lv0 := [(0, pR v0)]) ⟨pl_X7, rfl, rfl, (Nat.le_of_ble_eq_true rfl), rfl⟩ ?_
  have hcs : 0 + c0 ≤ c0 ∧ 0 + n0 ≤ n0 := ⟨by omega, by omega⟩
  unfold f7_law at hf
  refine j_aload_n dX7_law_0 0 rfl ?_
  refine j_ldc2 (z := 107118487239027) q1406 (by decide) dX7_law_1 ?_
  obtain ⟨b1, hb1, hf⟩ := ob hf
  obtain ⟨eb1, tb1⟩ := ztg_s hb1
  obtain ⟨x2, hx2, hf⟩ := ob hf
  refine a_Vr [pL 107118487239027] [] (t7_is (some b1) 107118487239027 u hx2) ⟨q787, q789, qs12, q146, q790⟩ dv7_is rfl ⟨(Nat.le_of_ble_eq_true rfl), (Nat.le_of_ble_eq_true rfl)⟩ (c_recv zcl_7 tb1) (by rw [← eb1]; rfl) (Nat.le_of_ble_eq_true rfl) dX7_law_4 (hcs_ret (x := ()) (r := ()) hcs) ?_
  refine j_if_eq (w32 x2) rfl 14 dX7_law_7 (by decide) (fun h9 => ?_) (fun h9 => ?_)
  · replace hf := it h9 hf
    refine j_aload_n dX7_law_14 0 rfl ?_
    refine j_ldc2 (z := 474148660594) q1407 (by decide) dX7_law_15 ?_
    obtain ⟨b3, hb3, hf⟩ := ob hf
    obtain ⟨eb3, tb3⟩ := ztg_s hb3
    obtain ⟨x4, hx4, hf⟩ := ob hf
    refine a_Vr [pL 474148660594] [] (t7_is (some b3) 474148660594 u hx4) ⟨q787, q789, qs12, q146, q790⟩ dv7_is rfl ⟨(Nat.le_of_ble_eq_true rfl), (Nat.le_of_ble_eq_true rfl)⟩ (c_recv zcl_7 tb3) (by rw [← eb3]; rfl) (Nat.le_of_ble_eq_true rfl) dX7_law_18 (hcs_ret (x := ()) (r := ()) hcs) ?_
    refine j_if_eq (w32 x4) rfl 28 dX7_law_21 (by decide) (fun h8 => ?_) (fun h8 => ?_)
    · replace hf := it h8 hf
      refine j_aload_n dX7_law_28 0 rfl ?_
      refine j_ldc2 (z := 7168377) q1408 (by decide) dX7_law_29 ?_
      obtain ⟨b5, hb5, hf⟩ := ob hf
      obtain ⟨eb5, tb5⟩ := ztg_s hb5
      obtain ⟨x6, hx6, hf⟩ := ob hf
      refine a_Vr [pL 7168377] [] (t7_is (some b5) 7168377 u hx6) ⟨q787, q789, qs12, q146, q790⟩ dv7_is rfl ⟨(Nat.le_of_ble_eq_true rfl), (Nat.le_of_ble_eq_true rfl)⟩ (c_recv zcl_7 tb5) (by rw [← eb5]; rfl) (Nat.le_of_ble_eq_true rfl) dX7_law_32 (hcs_ret (x := ()) (r := ()) hcs) ?_
      refine j_if_eq (w32 x6) rfl 42 dX7_law_35 (by decide) (fun h7 => ?_) (fun h7 => ?_)
      · replace hf := it h7 hf
        refine j_iconst dX7_law_42 ?_
        exact j_sub [0] _ rfl (t7_law_b43 hfl v0 (-1) u hcs hf)
      · replace hf := ie h7 hf
        refine j_iconst dX7_law_38 ?_
        refine j_goto 43 dX7_law_39 (by decide) ?_
        exact j_sub [0] _ rfl (t7_law_b43 hfl v0 2 u hcs hf)
    · replace hf := ie h8 hf
      refine j_iconst dX7_law_24 ?_
      refine j_goto 43 dX7_law_25 (by decide) ?_
      exact j_sub [0] _ rfl (t7_law_b43 hfl v0 1 u hcs hf)
  · replace hf := ie h9 hf
    refine j_iconst dX7_law_10 ?_
    refine j_goto 43 dX7_law_11 (by decide) ?_
    exact j_sub [0] _ rfl (t7_law_b43 hfl v0 0 u hcs hf)
theorem t0_judge_b88 {G : CG} {A : Nat → Prop} {l : Launch} {a : List PV} {mc ms ce sl : Nat} (hfl : l.stackTraces = false) {r : Int × Sg} {c0 n0 : Nat} (v0 : Option Nat) (v2 : Int) (u : Sg) (hcs : ce + c0 ≤ mc ∧ sl + n0 ≤ ms) (hf : f0_judge_b88 G v0 v2 u = some (r, c0, n0)) : JW kC (bC G A) A l D0_judge a (tQQ yX0_judge G A a (.inr (some (pI r.1))) r.2 mc ms) mc ms u ce sl 88 [(0, pR v0), (2, pI v2)] [] := by
  unfold f0_judge_b88 at hf
  refine j_aload_n dX0_judge_88 0 rfl ?_
  refine j_iconst dX0_judge_89 ?_
  obtain ⟨u1, hu1, hf⟩ := ob hf
  refine c_puti (ci := 0) (k := 2) hu1 zcl_0 (Nat.le_of_ble_eq_true rfl) zf_X0_164 fk_2 rfl fits_I dX0_judge_90 ?_
  refine j_iload_n dX0_judge_93 1 rfl ?_
  replace hf := retU hf
  subst hf
  exact t_ofret (j_ireturn (bC_mv G A) (hcs_ret (x := ()) (r := ()) hcs) rfl dX0_judge_94)
theorem t0_judge_b77 {G : CG} {A : Nat → Prop} {l : Launch} {a : List PV} {mc ms ce sl : Nat} (hfl : l.stackTraces = false) {r : Int × Sg} {c0 n0 : Nat} (v0 : Option Nat) (s0 : Int) (u : Sg) (hcs : ce + c0 ≤ mc ∧ sl + n0 ≤ ms) (hf : f0_judge_b77 G v0 s0 u = some (r, c0, n0)) : JW kC (bC G A) A l D0_judge a (tQQ yX0_judge G A a (.inr (some (pI r.1))) r.2 mc ms) mc ms u ce sl 77 [(0, pR v0)] [pI s0] := by
  unfold f0_judge_b77 at hf
  refine j_istore_n dX0_judge_77 [(2, pI s0), (0, pR v0)] (Nat.le_of_ble_eq_true rfl) rfl ?_
  refine j_goto 88 dX0_judge_78 (by decide) ?_
  exact j_sub [1, 0] _ rfl (t0_judge_b88 hfl v0 s0 u hcs hf)
theorem t0_judge_b81 {G : CG} {A : Nat → Prop} {l : Launch} {a : List PV} {mc ms ce sl : Nat} (hfl : l.stackTraces = false) {r : Int × Sg} {c0 n0 : Nat} (v0 : Option Nat) (s0 : Option Nat) (u : Sg) (hcs : ce + c0 ≤ mc ∧ sl + n0 ≤ ms) (hf : f0_judge_b81 G v0 s0 u = some (r, c0, n0)) : JW kC (bC G A) A l D0_judge a (tQQ yX0_judge G A a (.inr (some (pI r.1))) r.2 mc ms) mc ms u ce sl 81 [(0, pR v0)] [pR s0] := by
  unfold f0_judge_b81 at hf
  refine j_astore_n dX0_judge_81 [(3, pR s0), (0, pR v0)] (Nat.le_of_ble_eq_true rfl) rfl ?_
  refine j_aload_n dX0_judge_82 1 rfl ?_
  refine j_aload_n dX0_judge_83 0 rfl ?_
  obtain ⟨b1, hb1, hf⟩ := ob hf
  obtain ⟨eb1, tb1⟩ := ztg_s hb1
  obtain ⟨q2, hq2, hf⟩ := ob hf
  refine a_Vr [pR s0] [] (t0_failed (some b1) s0 u hq2) ⟨q1256, q1258, qs36, q128, q1259⟩ dv0_failed rfl ⟨(Nat.le_of_ble_eq_true rfl), (Nat.le_of_ble_eq_true rfl)⟩ (c_recv zcl_0 tb1) (by rw [← eb1]; rfl) (Nat.le_of_ble_eq_true rfl) dX0_judge_84 (hcs_ret (x := ()) (r := ()) hcs) ?_
  refine j_istore_n dX0_judge_87 [(2, pI q2.1), (3, pR s0), (0, pR v0)] (Nat.le_of_ble_eq_true rfl) rfl ?_
  exact j_sub [2, 0] _ rfl (t0_judge_b88 hfl v0 q2.1 q2.2 hcs hf)
theorem t0_judge {G : CG} {A : Nat → Prop} {l : Launch} (hfl : l.stackTraces = false) {r : Int × Sg} {c0 n0 : Nat} (v0 : Option Nat) (v1 : Int) (u : Sg) (hf : f0_judge G v0 v1 u = some (r, c0, n0)) : JMH G A l yX0_judge D0_judge [(15, 78, 81, 168)] [pR v0, pI v1] u (some (pI r.1)) r.2 c0 n0 := by
  refine h_met (lv0 := [(0, pR v0), (1, pI v1)]) ⟨pl_X0, rfl, rfl, (Nat.le_of_ble_eq_true rfl), rfl⟩ ?_
  have hcs : 0 + c0 ≤ c0 ∧ 0 + n0 ≤ n0 := ⟨by omega, by omega⟩
  unfold f0_judge at hf
  refine j_aload_n dX0_judge_0 0 rfl ?_
  refine j_iload_n dX0_judge_1 1 rfl ?_
  obtain ⟨b1, hb1, hf⟩ := ob hf
  obtain ⟨eb1, tb1⟩ := ztg_s hb1
  obtain ⟨x2, hx2, hf⟩ := ob hf
  refine a_Vr [pI v1] [] (t0_isWording (some b1) v1 u hx2) ⟨q1264, q1266, qs37, q128, q1267⟩ dv0_isWording rfl ⟨(Nat.le_of_ble_eq_true rfl), (Nat.le_of_ble_eq_true rfl)⟩ (c_recv zcl_0 tb1) (by rw [← eb1]; rfl) (Nat.le_of_ble_eq_true rfl) dX0_judge_2 (hcs_ret (x := ()) (r := ()) hcs) ?_
  refine j_if_ne (w32 x2) rfl 10 dX0_judge_5 (by decide) (fun h29 => ?_) (fun h29 => ?_)
  · replace hf := ie h29 hf
    refine j_aload_n dX0_judge_10 0 rfl ?_
    refine j_iconst dX0_judge_11 ?_
    obtain ⟨u3, hu3, hf⟩ := ob hf
    refine c_puti (ci := 0) (k := 3) hu3 zcl_0 (Nat.le_of_ble_eq_true rfl) zf_X0_75 fk_3 rfl fits_I dX0_judge_12 ?_
    obtain ⟨q4, kq4, mq4, k_q4, m_q4, hq4, hf, hkq4, hmq4⟩ := bdU_s hf
    obtain ⟨hczq4, hcs⟩ := hcs_step hcs hkq4 hmq4
    refine c_new (ci := 7) hq4 zcl_7 zmk_7 q641 dX0_judge_15 hczq4 ?_
    refine j_dup dX0_judge_18 rfl ?_
    refine j_aload_n dX0_judge_19 0 rfl ?_
    refine j_aload_n dX0_judge_20 0 rfl ?_
    refine j_iload_n dX0_judge_21 1 rfl ?_
    obtain ⟨b5, hb5, hf⟩ := ob hf
    obtain ⟨eb5, tb5⟩ := ztg_s hb5
    obtain ⟨x6, hx6, hf⟩ := ob hf
    refine a_Vr [pI v1] [pR v0, pR (some q4.1), pR (some q4.1)] (t0_the (some b5) v1 q4.2 hx6) ⟨q1268, q1270, qs38, q128, q1271⟩ dv0_the rfl ⟨(Nat.le_of_ble_eq_true rfl), (Nat.le_of_ble_eq_true rfl)⟩ (c_recv zcl_0 tb5) (by rw [← eb5]; rfl) (Nat.le_of_ble_eq_true rfl) dX0_judge_22 (hcs_ret (x := ()) (r := ()) hcs) ?_
    refine j_sipush dX0_judge_25 (by decide) ?_
    obtain ⟨q7, kq7, mq7, k_q7, m_q7, hq7, hf, hkq7, hmq7⟩ := bdU_s hf
    obtain ⟨hczq7, hcs⟩ := hcs_step hcs hkq7 hmq7
    have hMq7 := t7_init (A := A) hfl (some q4.1) v0 x6 300 q4.2 hq7
    rcases zq7 : q7.1 with e8 | x9
    · rw [zq7] at hf hMq7
      replace hf := telL hf
      obtain ⟨b28, hb28, hf⟩ := ob hf
      obtain ⟨eb28, tb28⟩ := ztg_s hb28
      have te8 : zT q7.2 e8 = 9 := by cases eb28; exact tb28
      refine hc_callI [pR v0, pR x6, pI 300] [pR (some q4.1)] _ hMq7 ⟨q643, q644, q146, q645, rfl, rfl⟩ dv7_init rfl ⟨(Nat.le_of_ble_eq_true rfl), (Nat.le_of_ble_eq_true rfl)⟩ rfl (Nat.le_of_ble_eq_true rfl) dX0_judge_28 hczq7 te8 q1401 ⟨by decide, by decide, by decide⟩ q554 ?_
      exact j_sub [0] _ rfl (t0_judge_b81 hfl v0 (some e8) q7.2 hcs hf)
    · rw [zq7] at hf hMq7
      replace hf := telR hf
      refine t_callI [pR v0, pR x6, pI 300] [pR (some q4.1)] _ hMq7 ⟨q643, q644, q146, q645, rfl, rfl⟩ dv7_init rfl ⟨(Nat.le_of_ble_eq_true rfl), (Nat.le_of_ble_eq_true rfl)⟩ rfl (Nat.le_of_ble_eq_true rfl) dX0_judge_28 hczq7 ?_
      obtain ⟨b10, hb10, hf⟩ := ob hf
      obtain ⟨eb10, tb10⟩ := ztg_s hb10
      obtain ⟨q11, kq11, mq11, k_q11, m_q11, hq11, hf, hkq11, hmq11⟩ := bdU_s hf
      obtain ⟨hczq11, hcs⟩ := hcs_step hcs hkq11 hmq11
      have hMq11 := t7_law (A := A) hfl (some b10) q7.2 hq11
      rcases zq11 : q11.1 with e12 | x13
      · rw [zq11] at hf hMq11
        replace hf := telL hf
        obtain ⟨b27, hb27, hf⟩ := ob hf
        obtain ⟨eb27, tb27⟩ := ztg_s hb27
        have te12 : zT q11.2 e12 = 9 := by cases eb27; exact tb27
        refine hc_callV [] [] _ hMq11 ⟨q1402, q1403, q1404, q146, q1405⟩ dv7_law rfl ⟨(Nat.le_of_ble_eq_true rfl), (Nat.le_of_ble_eq_true rfl)⟩ (c_recv zcl_7 tb10) (by rw [← eb10]; rfl) (Nat.le_of_ble_eq_true rfl) dX0_judge_31 hczq11 te12 q1401 ⟨by decide, by decide, by decide⟩ q554 ?_
        exact j_sub [0] _ rfl (t0_judge_b81 hfl v0 (some e12) q11.2 hcs hf)
      · rw [zq11] at hf hMq11
        replace hf := telR hf
        refine t_callV [] [] _ hMq11 ⟨q1402, q1403, q1404, q146, q1405⟩ dv7_law rfl ⟨(Nat.le_of_ble_eq_true rfl), (Nat.le_of_ble_eq_true rfl)⟩ (c_recv zcl_7 tb10) (by rw [← eb10]; rfl) (Nat.le_of_ble_eq_true rfl) dX0_judge_31 hczq11 ?_
        refine j_istore_n dX0_judge_34 [(3, pI x13), (0, pR v0), (1, pI v1)] (Nat.le_of_ble_eq_true rfl) rfl ?_
        refine j_aload_n dX0_judge_35 1 rfl ?_
        obtain ⟨x14, hx14, hf⟩ := ob hf
        refine c_geta (ci := 0) (k := 15) hx14 zcl_0 (Nat.le_of_ble_eq_true rfl) zf_X0_124 fk_15 dX0_judge_36 ?_
        refine j_aload_n dX0_judge_39 1 rfl ?_
        refine j_iload_n dX0_judge_40 2 rfl ?_
        obtain ⟨b15, hb15, hf⟩ := ob hf
        obtain ⟨eb15, tb15⟩ := ztg_s hb15
        obtain ⟨x16, hx16, hf⟩ := ob hf
        refine a_Vr [pI v1] [pR x14] (t0_the (some b15) v1 q11.2 hx16) ⟨q1268, q1270, qs38, q128, q1271⟩ dv0_the rfl ⟨(Nat.le_of_ble_eq_true rfl), (Nat.le_of_ble_eq_true rfl)⟩ (c_recv zcl_0 tb15) (by rw [← eb15]; rfl) (Nat.le_of_ble_eq_true rfl) dX0_judge_41 (hcs_ret (x := ()) (r := ()) hcs) ?_
        refine j_null dX0_judge_44 ?_
        refine j_aload_n dX0_judge_45 1 rfl ?_
        obtain ⟨x17, hx17, hf⟩ := ob hf
        refine c_geta (ci := 0) (k := 4) hx17 zcl_0 (Nat.le_of_ble_eq_true rfl) zf_X0_308 fk_4 dX0_judge_46 ?_
        obtain ⟨b18, hb18, hf⟩ := ob hf
        obtain ⟨eb18, tb18⟩ := ztg_s hb18
        obtain ⟨q19, hq19, hf⟩ := ob hf
        refine a_Vr [pR x16, pR none, pR x17] [] (t3_isParted (some b18) x16 none x17 q11.2 hq19) ⟨q1359, q1360, q1361, q134, q1362⟩ dv3_isParted rfl ⟨(Nat.le_of_ble_eq_true rfl), (Nat.le_of_ble_eq_true rfl)⟩ (c_recv zcl_3 tb18) (by rw [← eb18]; rfl) (Nat.le_of_ble_eq_true rfl) dX0_judge_49 (hcs_ret (x := ()) (r := ()) hcs) ?_
        refine j_if_eq (w32 q19.1) rfl 75 dX0_judge_52 (by decide) (fun h26 => ?_) (fun h26 => ?_)
        · replace hf := it h26 hf
          refine j_bipush dX0_judge_75 (by decide) ?_
          exact j_sub [1] _ rfl (t0_judge_b77 hfl v0 (-4) q19.2 hcs hf)
        · replace hf := ie h26 hf
          refine j_aload_n dX0_judge_55 1 rfl ?_
          obtain ⟨x20, hx20, hf⟩ := ob hf
          refine c_geta (ci := 0) (k := 15) hx20 zcl_0 (Nat.le_of_ble_eq_true rfl) zf_X0_124 fk_15 dX0_judge_56 ?_
          refine j_aload_n dX0_judge_59 1 rfl ?_
          refine j_iload_n dX0_judge_60 2 rfl ?_
          obtain ⟨b21, hb21, hf⟩ := ob hf
          obtain ⟨eb21, tb21⟩ := ztg_s hb21
          obtain ⟨x22, hx22, hf⟩ := ob hf
          refine a_Vr [pI v1] [pR x20] (t0_the (some b21) v1 q19.2 hx22) ⟨q1268, q1270, qs38, q128, q1271⟩ dv0_the rfl ⟨(Nat.le_of_ble_eq_true rfl), (Nat.le_of_ble_eq_true rfl)⟩ (c_recv zcl_0 tb21) (by rw [← eb21]; rfl) (Nat.le_of_ble_eq_true rfl) dX0_judge_61 (hcs_ret (x := ()) (r := ()) hcs) ?_
          refine j_iload_n dX0_judge_64 0 rfl ?_
          refine j_aload_n dX0_judge_65 1 rfl ?_
          obtain ⟨x23, hx23, hf⟩ := ob hf
          refine c_geta (ci := 0) (k := 4) hx23 zcl_0 (Nat.le_of_ble_eq_true rfl) zf_X0_308 fk_4 dX0_judge_66 ?_
          obtain ⟨b24, hb24, hf⟩ := ob hf
          obtain ⟨eb24, tb24⟩ := ztg_s hb24
          obtain ⟨q25, hq25, hf⟩ := ob hf
          refine a_Vr [pR x22, pI x13, pR x23] [] (t3_judge (some b24) x22 x13 x23 q19.2 hq25) ⟨q1409, q1410, q1411, q134, q1412⟩ dv3_judge rfl ⟨(Nat.le_of_ble_eq_true rfl), (Nat.le_of_ble_eq_true rfl)⟩ (c_recv zcl_3 tb24) (by rw [← eb24]; rfl) (Nat.le_of_ble_eq_true rfl) dX0_judge_69 (hcs_ret (x := ()) (r := ()) hcs) ?_
          refine j_goto 77 dX0_judge_72 (by decide) ?_
          exact j_sub [1] _ rfl (t0_judge_b77 hfl v0 q25.1 q25.2 hcs hf)
  · replace hf := it h29 hf
    refine j_iconst dX0_judge_8 ?_
    replace hf := retU hf
    subst hf
    exact t_ofret (j_ireturn (bC_mv G A) (hcs_ret (x := ()) (r := ()) hcs) rfl dX0_judge_9)
theorem t0_shown {G : CG} {A : Nat → Prop} {l : Launch} {r : Int} (v0 : Option Nat) (v1 : Int) (u : Sg) (hf : f0_shown G v0 v1 u = some r) : JM kC (bC G A) A l yX0_shown D0_shown [pR v0, pI v1] u (some (pI r)) u 0 0 := by
  refine j_met (lv0 := [(0, pR v0), (1, pI v1)]) ⟨pl_X0, rfl, rfl, (Nat.le_of_ble_eq_true rfl), rfl⟩ ?_
  unfold f0_shown at hf
  refine j_aload_n dX0_shown_0 0 rfl ?_
  obtain ⟨x1, hx1, hf⟩ := ob hf
  refine c_geta (ci := 0) (k := 15) hx1 zcl_0 (Nat.le_of_ble_eq_true rfl) zf_X0_124 fk_15 dX0_shown_1 ?_
  obtain ⟨x2, hx2, hf⟩ := ob hf
  refine c_getiN (ci := 3) (k := 7) hx2 zcl_3 (Nat.le_of_ble_eq_true rfl) zf_X0_315 fk_127 dX0_shown_4 ?_
  refine j_if_ne (w32 x2) rfl 13 dX0_shown_7 (by decide) (fun h10 => ?_) (fun h10 => ?_)
  · replace hf := ie h10 hf
    refine j_iload_n dX0_shown_13 1 rfl ?_
    refine j_if_lt (w32 v1) rfl 28 dX0_shown_14 (by decide) (fun h9 => ?_) (fun h9 => ?_)
    · replace hf := it h9 hf
      refine j_iconst dX0_shown_28 ?_
      refine j_goto 41 dX0_shown_29 (by decide) ?_
      replace hf := Option.some.inj hf
      subst hf
      exact j_ireturn (bC_mv G A) ⟨Nat.le_refl 0, Nat.le_refl 0⟩ rfl dX0_shown_41
    · replace hf := ie h9 hf
      refine j_iload_n dX0_shown_17 1 rfl ?_
      refine j_aload_n dX0_shown_18 0 rfl ?_
      obtain ⟨x3, hx3, hf⟩ := ob hf
      refine c_geta (ci := 0) (k := 15) hx3 zcl_0 (Nat.le_of_ble_eq_true rfl) zf_X0_124 fk_15 dX0_shown_19 ?_
      obtain ⟨x4, hx4, hf⟩ := ob hf
      refine c_getiN (ci := 3) (k := 8) hx4 zcl_3 (Nat.le_of_ble_eq_true rfl) zf_X0_319 fk_128 dX0_shown_22 ?_
      refine j_icmp_lt (w32 v1) (w32 x4) rfl rfl 32 dX0_shown_25 (by decide) (fun h8 => ?_) (fun h8 => ?_)
      · replace hf := it h8 hf
        refine j_aload_n dX0_shown_32 0 rfl ?_
        obtain ⟨x5, hx5, hf⟩ := ob hf
        refine c_geta (ci := 0) (k := 15) hx5 zcl_0 (Nat.le_of_ble_eq_true rfl) zf_X0_124 fk_15 dX0_shown_33 ?_
        obtain ⟨x6, hx6, hf⟩ := ob hf
        refine c_getaN (ci := 3) (k := 6) hx6 zcl_3 (Nat.le_of_ble_eq_true rfl) zf_X0_322 fk_126 dX0_shown_36 ?_
        refine j_iload_n dX0_shown_39 1 rfl ?_
        obtain ⟨x7, hx7, hf⟩ := ob hf
        refine c_iald hx7 dX0_shown_40 ?_
        replace hf := Option.some.inj hf
        subst hf
        exact j_ireturn (bC_mv G A) ⟨Nat.le_refl 0, Nat.le_refl 0⟩ rfl dX0_shown_41
      · replace hf := ie h8 hf
        refine j_iconst dX0_shown_28 ?_
        refine j_goto 41 dX0_shown_29 (by decide) ?_
        replace hf := Option.some.inj hf
        subst hf
        exact j_ireturn (bC_mv G A) ⟨Nat.le_refl 0, Nat.le_refl 0⟩ rfl dX0_shown_41
  · replace hf := it h10 hf
    refine j_bipush dX0_shown_10 (by decide) ?_
    replace hf := Option.some.inj hf
    subst hf
    exact j_ireturn (bC_mv G A) ⟨Nat.le_refl 0, Nat.le_refl 0⟩ rfl dX0_shown_12
theorem t19_init {G : CG} {A : Nat → Prop} {l : Launch} {r : Sg} {c0 n0 : Nat} (v0 : Option Nat) (v1 : Int) (u : Sg) (hf : f19_init G v0 v1 u = some (r, c0, n0)) : JM kC (bC G A) A l yX19_init D19_init [pR v0, pI v1] u none r c0 n0 := by
  refine j_met (lv0 := [(0, pR v0), (1, pI v1)]) ⟨pl_X19, rfl, rfl, (Nat.le_of_ble_eq_true rfl), rfl⟩ ?_
  have hcs : 0 + c0 ≤ c0 ∧ 0 + n0 ≤ n0 := ⟨by omega, by omega⟩
  unfold f19_init at hf
  refine j_aload_n dX19_init_0 0 rfl ?_
  obtain ⟨b1, eb1, hg⟩ := ob hf
  clear hf
  subst eb1
  have hf := hg
  clear hg
  refine c_objInit q1438 q177 q178 (Nat.le_of_ble_eq_true rfl) (Nat.le_of_ble_eq_true rfl) (Nat.le_of_ble_eq_true rfl) dX19_init_1 ?_
  refine j_aload_n dX19_init_4 0 rfl ?_
  refine j_iload_n dX19_init_5 1 rfl ?_
  obtain ⟨q2, kq2, mq2, k_q2, m_q2, hq2, hf, hkq2, hmq2⟩ := bdU_s hf
  obtain ⟨hczq2, hcs⟩ := hcs_step hcs hkq2 hmq2
  refine c_newa hq2 zat_1 dX19_init_6 hczq2 ?_
  obtain ⟨u3, hu3, hf⟩ := ob hf
  refine c_putaF (ci := 19) (k := 0) hu3 zcl_19 (Nat.le_of_ble_eq_true rfl) zf_X19_9 fk_760 rfl rfl rfl fits_A dX19_init_8 ?_
  refine j_aload_n dX19_init_11 0 rfl ?_
  refine j_iload_n dX19_init_12 1 rfl ?_
  obtain ⟨q4, kq4, mq4, k_q4, m_q4, hq4, hf, hkq4, hmq4⟩ := bdU_s hf
  obtain ⟨hczq4, hcs⟩ := hcs_step hcs hkq4 hmq4
  refine c_newa hq4 zat_1 dX19_init_13 hczq4 ?_
  obtain ⟨u5, hu5, hf⟩ := ob hf
  refine c_putaF (ci := 19) (k := 1) hu5 zcl_19 (Nat.le_of_ble_eq_true rfl) zf_X19_15 fk_761 rfl rfl rfl fits_A dX19_init_15 ?_
  replace hf := retU hf
  subst hf
  exact j_return (bC_mv G A) (hcs_ret (x := ()) (r := ()) hcs) rfl dX19_init_18
theorem t18_init_l22 {G : CG} {A : Nat → Prop} {l : Launch} {a : List PV} {mc ms : Nat} {r : Sg} {Kf : Sg → Option ((Sg) × Nat × Nat)} (v0 : Option Nat) (v1 : Option Nat) (hK0 : ∀ (q : Sg) {ce sl c0 n0 : Nat}, ce + c0 ≤ mc ∧ sl + n0 ≤ ms → Kf q = some (r, c0, n0) → JW kC (bC G A) A l D18_init a (jQ (bC G A) A a none r mc ms) mc ms q ce sl 60 [] []) : ∀ (n : Nat) (v2 : Int) (u : Sg) {ce sl c0 n0 : Nat}, ce + c0 ≤ mc ∧ sl + n0 ≤ ms → (bdU (f18_init_l22 G v0 v1 n v2 u) Kf = some (r, c0, n0)) → JW kC (bC G A) A l D18_init a (jQ (bC G A) A a none r mc ms) mc ms u ce sl 22 [(0, pR v0), (1, pR v1), (2, pI v2)] [] := by
  intro n
  induction n with
  | zero => intro v2 u ce sl c0 n0 hcs hf; exact onK hf
  | succ n ih =>
    intro v2 u ce sl c0 n0 hcs hf
    unfold f18_init_l22 at hf
    refine j_iload_n dX18_init_22 2 rfl ?_
    refine j_aload_n dX18_init_23 1 rfl ?_
    obtain ⟨x1, hx1, hf⟩ := obK hf
    refine c_getaN (ci := 6) (k := 0) hx1 zcl_6 (Nat.le_of_ble_eq_true rfl) zf_X18_20 fk_240 dX18_init_24 ?_
    obtain ⟨b2, hb2, hf⟩ := obK hf
    obtain ⟨eb2, tb2⟩ := ztg_s hb2
    obtain ⟨x3, hx3, hf⟩ := obK hf
    refine a_Fr (x := ix_0) [] [pI v2] (tJ2_size (some b2) u hx3) ⟨q1432, q559, q561, q131, q563⟩ iF_0 df_0 rfl ⟨(Nat.le_of_ble_eq_true rfl), (Nat.le_of_ble_eq_true rfl)⟩ zcl_5 rfl tb2 (by rw [← eb2]; rfl) (Nat.le_of_ble_eq_true rfl) dX18_init_27 (hcs_ret (x := ()) (r := ()) hcs) ?_
    refine j_icmp_ge (w32 v2) (w32 x3) rfl rfl 60 dX18_init_32 (by decide) (fun h9 => ?_) (fun h9 => ?_)
    · replace hf := itK h9 hf
      exact j_sub [] _ rfl (hK0 u hcs (bdU_0 hf))
    · replace hf := ieK h9 hf
      refine j_aload_n dX18_init_35 0 rfl ?_
      obtain ⟨x4, hx4, hf⟩ := obK hf
      refine c_geta (ci := 18) (k := 1) hx4 zcl_18 (Nat.le_of_ble_eq_true rfl) zf_X18_10 fk_721 dX18_init_36 ?_
      replace hf := bdU_a hf
      obtain ⟨q5, kq5, mq5, k_q5, m_q5, hq5, hf, hkq5, hmq5⟩ := bdU_s hf
      obtain ⟨hczq5, hcs⟩ := hcs_step hcs hkq5 hmq5
      refine c_new (ci := 19) hq5 zcl_19 zmk_19 q1433 dX18_init_39 hczq5 ?_
      refine j_dup dX18_init_42 rfl ?_
      refine j_bipush dX18_init_43 (by decide) ?_
      replace hf := bdU_a hf
      obtain ⟨q6, kq6, mq6, k_q6, m_q6, hq6, hf, hkq6, hmq6⟩ := bdU_s hf
      obtain ⟨hczq6, hcs⟩ := hcs_step hcs hkq6 hmq6
      refine c_callI [pI 6] [pR (some q5.1), pR x4] _ (t19_init (some q5.1) 6 q5.2 hq6) ⟨q1435, q1436, q167, q1437, rfl, rfl⟩ dv19_init rfl ⟨(Nat.le_of_ble_eq_true rfl), (Nat.le_of_ble_eq_true rfl)⟩ rfl (Nat.le_of_ble_eq_true rfl) dX18_init_45 hczq6 ?_
      obtain ⟨b7, hb7, hf⟩ := obK hf
      obtain ⟨eb7, tb7⟩ := ztg_s hb7
      replace hf := bdU_a hf
      obtain ⟨q8, kq8, mq8, k_q8, m_q8, hq8, hf, hkq8, hmq8⟩ := bdU_s hf
      obtain ⟨hczq8, hcs⟩ := hcs_step hcs hkq8 hmq8
      refine a_Fr (x := ix_2) [pR (some q5.1)] [] (tJ2_add (some b7) (some q5.1) q6 hq8) ⟨q1451, q325, q327, q131, q329⟩ iF_2 df_2 rfl ⟨(Nat.le_of_ble_eq_true rfl), (Nat.le_of_ble_eq_true rfl)⟩ zcl_5 rfl tb7 (by rw [← eb7]; rfl) (Nat.le_of_ble_eq_true rfl) dX18_init_48 hczq8 ?_
      refine j_pop dX18_init_53 rfl ?_
      refine j_iinc dX18_init_54 2 rfl [(2, pI (v2 + 1)), (0, pR v0), (1, pR v1)] (Nat.le_of_ble_eq_true rfl) rfl ?_
      refine j_goto 22 dX18_init_57 (by decide) ?_
      exact j_sub [1, 2, 0] _ rfl (ih (v2 + 1) q8.2 hcs hf)
theorem t18_init {G : CG} {A : Nat → Prop} {l : Launch} {r : Sg} {c0 n0 : Nat} (v0 : Option Nat) (v1 : Option Nat) (u : Sg) (hf : f18_init G v0 v1 u = some (r, c0, n0)) : JM kC (bC G A) A l yX18_init D18_init [pR v0, pR v1] u none r c0 n0 := by
  refine j_met (lv0 := [(0, pR v0), (1, pR v1)]) ⟨pl_X18, rfl, rfl, (Nat.le_of_ble_eq_true rfl), rfl⟩ ?_
  have hcs : 0 + c0 ≤ c0 ∧ 0 + n0 ≤ n0 := ⟨by omega, by omega⟩
  unfold f18_init at hf
  refine j_aload_n dX18_init_0 0 rfl ?_
  obtain ⟨b1, eb1, hg⟩ := ob hf
  clear hf
  subst eb1
  have hf := hg
  clear hg
  refine c_objInit q1428 q177 q178 (Nat.le_of_ble_eq_true rfl) (Nat.le_of_ble_eq_true rfl) (Nat.le_of_ble_eq_true rfl) dX18_init_1 ?_
  refine j_aload_n dX18_init_4 0 rfl ?_
  obtain ⟨q2, kq2, mq2, k_q2, m_q2, hq2, hf, hkq2, hmq2⟩ := bdU_s hf
  obtain ⟨hczq2, hcs⟩ := hcs_step hcs hkq2 hmq2
  refine c_new (ci := 5) hq2 zcl_5 zmk_5 q1429 dX18_init_5 hczq2 ?_
  refine j_dup dX18_init_8 rfl ?_
  obtain ⟨u3, hu3, hf⟩ := ob hf
  refine c_callI [] [pR (some q2.1), pR (some b1)] _ (tJ2_init (some q2.1) q2.2 hu3) ⟨q1430, q211, q131, q212, rfl, rfl⟩ dvJ2_init rfl ⟨(Nat.le_of_ble_eq_true rfl), (Nat.le_of_ble_eq_true rfl)⟩ rfl (Nat.le_of_ble_eq_true rfl) dX18_init_9 (hcs_ret (x := ()) (r := ()) hcs) ?_
  obtain ⟨u4, hu4, hf⟩ := ob hf
  refine c_putaF (ci := 18) (k := 1) hu4 zcl_18 (Nat.le_of_ble_eq_true rfl) zf_X18_10 fk_721 rfl rfl rfl fits_O dX18_init_12 ?_
  refine j_aload_n dX18_init_15 0 rfl ?_
  refine j_aload_n dX18_init_16 1 rfl ?_
  obtain ⟨u5, hu5, hf⟩ := ob hf
  refine c_putaF (ci := 18) (k := 0) hu5 zcl_18 (Nat.le_of_ble_eq_true rfl) zf_X18_16 fk_720 rfl rfl rfl fits_O dX18_init_17 ?_
  refine j_iconst dX18_init_20 ?_
  refine j_istore_n dX18_init_21 [(2, pI 0), (0, pR (some b1)), (1, pR v1)] (Nat.le_of_ble_eq_true rfl) rfl ?_
  refine j_sub [1, 2, 0] _ rfl (t18_init_l22 (some b1) v1 ?_ NN 0 u5 hcs hf)
  · intro q6 ceq6 slq6 cq6 nq6 hcs hf
    replace hf := retU hf
    subst hf
    exact j_return (bC_mv G A) (hcs_ret (x := ()) (r := ()) hcs) rfl dX18_init_60
theorem t0_event {G : CG} {A : Nat → Prop} {l : Launch} {r : Int × Sg} {c0 n0 : Nat} (v0 : Option Nat) (v1 : Int) (u : Sg) (hf : f0_event G v0 v1 u = some (r, c0, n0)) : JM kC (bC G A) A l yX0_event D0_event [pR v0, pI v1] u (some (pI r.1)) r.2 c0 n0 := by
  refine j_met (lv0 := [(0, pR v0), (1, pI v1)]) ⟨pl_X0, rfl, rfl, (Nat.le_of_ble_eq_true rfl), rfl⟩ ?_
  have hcs : 0 + c0 ≤ c0 ∧ 0 + n0 ≤ n0 := ⟨by omega, by omega⟩
  unfold f0_event at hf
  refine j_aload_n dX0_event_0 0 rfl ?_
  refine j_iload_n dX0_event_1 1 rfl ?_
  obtain ⟨b1, hb1, hf⟩ := ob hf
  obtain ⟨eb1, tb1⟩ := ztg_s hb1
  obtain ⟨x2, hx2, hf⟩ := ob hf
  refine a_Vr [pI v1] [] (t0_isWording (some b1) v1 u hx2) ⟨q1264, q1266, qs37, q128, q1267⟩ dv0_isWording rfl ⟨(Nat.le_of_ble_eq_true rfl), (Nat.le_of_ble_eq_true rfl)⟩ (c_recv zcl_0 tb1) (by rw [← eb1]; rfl) (Nat.le_of_ble_eq_true rfl) dX0_event_2 (hcs_ret (x := ()) (r := ()) hcs) ?_
  refine j_if_ne (w32 x2) rfl 10 dX0_event_5 (by decide) (fun h17 => ?_) (fun h17 => ?_)
  · replace hf := ie h17 hf
    refine j_aload_n dX0_event_10 0 rfl ?_
    obtain ⟨x3, hx3, hf⟩ := ob hf
    refine c_geta (ci := 0) (k := 6) hx3 zcl_0 (Nat.le_of_ble_eq_true rfl) zf_X0_86 fk_6 dX0_event_11 ?_
    obtain ⟨b4, hb4, hf⟩ := ob hf
    obtain ⟨eb4, tb4⟩ := ztg_s hb4
    obtain ⟨x5, hx5, hf⟩ := ob hf
    refine a_Fr (x := ix_0) [] [] (tJ2_size (some b4) u hx5) ⟨q556, q559, q561, q131, q563⟩ iF_0 df_0 rfl ⟨(Nat.le_of_ble_eq_true rfl), (Nat.le_of_ble_eq_true rfl)⟩ zcl_5 rfl tb4 (by rw [← eb4]; rfl) (Nat.le_of_ble_eq_true rfl) dX0_event_14 (hcs_ret (x := ()) (r := ()) hcs) ?_
    refine j_bipush dX0_event_19 (by decide) ?_
    refine j_icmp_ne (w32 x5) 32 rfl rfl 27 dX0_event_21 (by decide) (fun h16 => ?_) (fun h16 => ?_)
    · replace hf := ie h16 hf
      refine j_aload_n dX0_event_27 0 rfl ?_
      obtain ⟨x6, hx6, hf⟩ := ob hf
      refine c_geta (ci := 0) (k := 6) hx6 zcl_0 (Nat.le_of_ble_eq_true rfl) zf_X0_86 fk_6 dX0_event_28 ?_
      obtain ⟨q7, kq7, mq7, k_q7, m_q7, hq7, hf, hkq7, hmq7⟩ := bdU_s hf
      obtain ⟨hczq7, hcs⟩ := hcs_step hcs hkq7 hmq7
      refine c_new (ci := 18) hq7 zcl_18 zmk_18 q1423 dX0_event_31 hczq7 ?_
      refine j_dup dX0_event_34 rfl ?_
      refine j_aload_n dX0_event_35 0 rfl ?_
      refine j_iload_n dX0_event_36 1 rfl ?_
      obtain ⟨b8, hb8, hf⟩ := ob hf
      obtain ⟨eb8, tb8⟩ := ztg_s hb8
      obtain ⟨x9, hx9, hf⟩ := ob hf
      refine a_Vr [pI v1] [pR (some q7.1), pR (some q7.1), pR x6] (t0_the (some b8) v1 q7.2 hx9) ⟨q1268, q1270, qs38, q128, q1271⟩ dv0_the rfl ⟨(Nat.le_of_ble_eq_true rfl), (Nat.le_of_ble_eq_true rfl)⟩ (c_recv zcl_0 tb8) (by rw [← eb8]; rfl) (Nat.le_of_ble_eq_true rfl) dX0_event_37 (hcs_ret (x := ()) (r := ()) hcs) ?_
      obtain ⟨q10, kq10, mq10, k_q10, m_q10, hq10, hf, hkq10, hmq10⟩ := bdU_s hf
      obtain ⟨hczq10, hcs⟩ := hcs_step hcs hkq10 hmq10
      refine c_callI [pR x9] [pR (some q7.1), pR x6] _ (t18_init (some q7.1) x9 q7.2 hq10) ⟨q1425, q1426, q166, q1427, rfl, rfl⟩ dv18_init rfl ⟨(Nat.le_of_ble_eq_true rfl), (Nat.le_of_ble_eq_true rfl)⟩ rfl (Nat.le_of_ble_eq_true rfl) dX0_event_40 hczq10 ?_
      obtain ⟨b11, hb11, hf⟩ := ob hf
      obtain ⟨eb11, tb11⟩ := ztg_s hb11
      obtain ⟨q12, kq12, mq12, k_q12, m_q12, hq12, hf, hkq12, hmq12⟩ := bdU_s hf
      obtain ⟨hczq12, hcs⟩ := hcs_step hcs hkq12 hmq12
      refine a_Fr (x := ix_2) [pR (some q7.1)] [] (tJ2_add (some b11) (some q7.1) q10 hq12) ⟨q1255, q325, q327, q131, q329⟩ iF_2 df_2 rfl ⟨(Nat.le_of_ble_eq_true rfl), (Nat.le_of_ble_eq_true rfl)⟩ zcl_5 rfl tb11 (by rw [← eb11]; rfl) (Nat.le_of_ble_eq_true rfl) dX0_event_43 hczq12 ?_
      refine j_pop dX0_event_48 rfl ?_
      refine j_aload_n dX0_event_49 0 rfl ?_
      obtain ⟨x13, hx13, hf⟩ := ob hf
      refine c_geta (ci := 0) (k := 6) hx13 zcl_0 (Nat.le_of_ble_eq_true rfl) zf_X0_86 fk_6 dX0_event_50 ?_
      obtain ⟨b14, hb14, hf⟩ := ob hf
      obtain ⟨eb14, tb14⟩ := ztg_s hb14
      obtain ⟨x15, hx15, hf⟩ := ob hf
      refine a_Fr (x := ix_0) [] [] (tJ2_size (some b14) q12.2 hx15) ⟨q556, q559, q561, q131, q563⟩ iF_0 df_0 rfl ⟨(Nat.le_of_ble_eq_true rfl), (Nat.le_of_ble_eq_true rfl)⟩ zcl_5 rfl tb14 (by rw [← eb14]; rfl) (Nat.le_of_ble_eq_true rfl) dX0_event_53 (hcs_ret (x := ()) (r := ()) hcs) ?_
      replace hf := retU hf
      subst hf
      exact j_ireturn (bC_mv G A) (hcs_ret (x := ()) (r := ()) hcs) rfl dX0_event_58
    · replace hf := it h16 hf
      refine j_bipush dX0_event_24 (by decide) ?_
      replace hf := retU hf
      subst hf
      exact j_ireturn (bC_mv G A) (hcs_ret (x := ()) (r := ()) hcs) rfl dX0_event_26
  · replace hf := it h17 hf
    refine j_iconst dX0_event_8 ?_
    replace hf := retU hf
    subst hf
    exact j_ireturn (bC_mv G A) (hcs_ret (x := ()) (r := ()) hcs) rfl dX0_event_9
theorem t0_isDay {G : CG} {A : Nat → Prop} {l : Launch} {r : Int} (v0 : Int) (u : Sg) (hf : f0_isDay v0 = some r) : JM kC (bC G A) A l yX0_isDay D0_isDay [pI v0] u (some (pI r)) u 0 0 := by
  refine j_met (lv0 := [(0, pI v0)]) ⟨pl_X0, rfl, rfl, (Nat.le_of_ble_eq_true rfl), rfl⟩ ?_
  unfold f0_isDay at hf
  refine j_iload_n dX0_isDay_0 0 rfl ?_
  refine j_if_lt (w32 v0) rfl 15 dX0_isDay_1 (by decide) (fun h2 => ?_) (fun h2 => ?_)
  · replace hf := it h2 hf
    refine j_iconst dX0_isDay_15 ?_
    replace hf := Option.some.inj hf
    subst hf
    exact j_zreturn (x := 0) (bC_mv G A) ⟨Nat.le_refl 0, Nat.le_refl 0⟩ (ty := .boolean) rfl (nar_z (Or.inl rfl)) dX0_isDay_16
  · replace hf := ie h2 hf
    refine j_iload_n dX0_isDay_4 0 rfl ?_
    refine j_sipush dX0_isDay_5 (by decide) ?_
    refine j_icmp_gt (w32 v0) 9999 rfl rfl 15 dX0_isDay_8 (by decide) (fun h1 => ?_) (fun h1 => ?_)
    · replace hf := it h1 hf
      refine j_iconst dX0_isDay_15 ?_
      replace hf := Option.some.inj hf
      subst hf
      exact j_zreturn (x := 0) (bC_mv G A) ⟨Nat.le_refl 0, Nat.le_refl 0⟩ (ty := .boolean) rfl (nar_z (Or.inl rfl)) dX0_isDay_16
    · replace hf := ie h1 hf
      refine j_iconst dX0_isDay_11 ?_
      refine j_goto 16 dX0_isDay_12 (by decide) ?_
      replace hf := Option.some.inj hf
      subst hf
      exact j_zreturn (x := 1) (bC_mv G A) ⟨Nat.le_refl 0, Nat.le_refl 0⟩ (ty := .boolean) rfl (nar_z (Or.inr rfl)) dX0_isDay_16
theorem t0_isEvent {G : CG} {A : Nat → Prop} {l : Launch} {r : Int} (v0 : Option Nat) (v1 : Int) (u : Sg) (hf : f0_isEvent G v0 v1 u = some r) : JM kC (bC G A) A l yX0_isEvent D0_isEvent [pR v0, pI v1] u (some (pI r)) u 0 0 := by
  refine j_met (lv0 := [(0, pR v0), (1, pI v1)]) ⟨pl_X0, rfl, rfl, (Nat.le_of_ble_eq_true rfl), rfl⟩ ?_
  unfold f0_isEvent at hf
  refine j_iload_n dX0_isEvent_0 1 rfl ?_
  refine j_if_le (w32 v1) rfl 21 dX0_isEvent_1 (by decide) (fun h5 => ?_) (fun h5 => ?_)
  · replace hf := it h5 hf
    refine j_iconst dX0_isEvent_21 ?_
    replace hf := Option.some.inj hf
    subst hf
    exact j_zreturn (x := 0) (bC_mv G A) ⟨Nat.le_refl 0, Nat.le_refl 0⟩ (ty := .boolean) rfl (nar_z (Or.inl rfl)) dX0_isEvent_22
  · replace hf := ie h5 hf
    refine j_iload_n dX0_isEvent_4 1 rfl ?_
    refine j_aload_n dX0_isEvent_5 0 rfl ?_
    obtain ⟨x1, hx1, hf⟩ := ob hf
    refine c_geta (ci := 0) (k := 6) hx1 zcl_0 (Nat.le_of_ble_eq_true rfl) zf_X0_86 fk_6 dX0_isEvent_6 ?_
    obtain ⟨b2, hb2, hf⟩ := ob hf
    obtain ⟨eb2, tb2⟩ := ztg_s hb2
    obtain ⟨x3, hx3, hf⟩ := ob hf
    refine a_Fr (x := ix_0) [] [pI v1] (tJ2_size (some b2) u hx3) ⟨q556, q559, q561, q131, q563⟩ iF_0 df_0 rfl ⟨(Nat.le_of_ble_eq_true rfl), (Nat.le_of_ble_eq_true rfl)⟩ zcl_5 rfl tb2 (by rw [← eb2]; rfl) (Nat.le_of_ble_eq_true rfl) dX0_isEvent_9 ⟨Nat.le_refl 0, Nat.le_refl 0⟩ ?_
    refine j_icmp_gt (w32 v1) (w32 x3) rfl rfl 21 dX0_isEvent_14 (by decide) (fun h4 => ?_) (fun h4 => ?_)
    · replace hf := it h4 hf
      refine j_iconst dX0_isEvent_21 ?_
      replace hf := Option.some.inj hf
      subst hf
      exact j_zreturn (x := 0) (bC_mv G A) ⟨Nat.le_refl 0, Nat.le_refl 0⟩ (ty := .boolean) rfl (nar_z (Or.inl rfl)) dX0_isEvent_22
    · replace hf := ie h4 hf
      refine j_iconst dX0_isEvent_17 ?_
      refine j_goto 22 dX0_isEvent_18 (by decide) ?_
      replace hf := Option.some.inj hf
      subst hf
      exact j_zreturn (x := 1) (bC_mv G A) ⟨Nat.le_refl 0, Nat.le_refl 0⟩ (ty := .boolean) rfl (nar_z (Or.inr rfl)) dX0_isEvent_22
theorem t0_isFact {G : CG} {A : Nat → Prop} {l : Launch} {r : Int} (v0 : Option Nat) (v1 : Int) (v2 : Int) (u : Sg) (hf : f0_isFact G v0 v1 v2 u = some r) : JM kC (bC G A) A l yX0_isFact D0_isFact [pR v0, pI v1, pI v2] u (some (pI r)) u 0 0 := by
  refine j_met (lv0 := [(0, pR v0), (1, pI v1), (2, pI v2)]) ⟨pl_X0, rfl, rfl, (Nat.le_of_ble_eq_true rfl), rfl⟩ ?_
  unfold f0_isFact at hf
  refine j_aload_n dX0_isFact_0 0 rfl ?_
  refine j_iload_n dX0_isFact_1 1 rfl ?_
  obtain ⟨b1, hb1, hf⟩ := ob hf
  obtain ⟨eb1, tb1⟩ := ztg_s hb1
  obtain ⟨x2, hx2, hf⟩ := ob hf
  refine a_Vr [pI v1] [] (t0_isEvent (some b1) v1 u hx2) ⟨q1470, q1472, qs40, q128, q1473⟩ dv0_isEvent rfl ⟨(Nat.le_of_ble_eq_true rfl), (Nat.le_of_ble_eq_true rfl)⟩ (c_recv zcl_0 tb1) (by rw [← eb1]; rfl) (Nat.le_of_ble_eq_true rfl) dX0_isFact_2 ⟨Nat.le_refl 0, Nat.le_refl 0⟩ ?_
  refine j_if_eq (w32 x2) rfl 43 dX0_isFact_5 (by decide) (fun h12 => ?_) (fun h12 => ?_)
  · replace hf := it h12 hf
    refine j_iconst dX0_isFact_43 ?_
    replace hf := Option.some.inj hf
    subst hf
    exact j_zreturn (x := 0) (bC_mv G A) ⟨Nat.le_refl 0, Nat.le_refl 0⟩ (ty := .boolean) rfl (nar_z (Or.inl rfl)) dX0_isFact_44
  · replace hf := ie h12 hf
    refine j_iload_n dX0_isFact_8 2 rfl ?_
    refine j_if_lt (w32 v2) rfl 43 dX0_isFact_9 (by decide) (fun h11 => ?_) (fun h11 => ?_)
    · replace hf := it h11 hf
      refine j_iconst dX0_isFact_43 ?_
      replace hf := Option.some.inj hf
      subst hf
      exact j_zreturn (x := 0) (bC_mv G A) ⟨Nat.le_refl 0, Nat.le_refl 0⟩ (ty := .boolean) rfl (nar_z (Or.inl rfl)) dX0_isFact_44
    · replace hf := ie h11 hf
      refine j_iload_n dX0_isFact_12 2 rfl ?_
      refine j_aload_n dX0_isFact_13 0 rfl ?_
      obtain ⟨x3, hx3, hf⟩ := ob hf
      refine c_geta (ci := 0) (k := 6) hx3 zcl_0 (Nat.le_of_ble_eq_true rfl) zf_X0_86 fk_6 dX0_isFact_14 ?_
      refine j_iload_n dX0_isFact_17 1 rfl ?_
      refine j_iconst dX0_isFact_18 ?_
      refine j_isub dX0_isFact_19 ?_
      obtain ⟨b4, hb4, hf⟩ := ob hf
      obtain ⟨eb4, tb4⟩ := ztg_s hb4
      obtain ⟨x5, hx5, hf⟩ := ob hf
      refine a_Fr (x := ix_1) [pI (v1 - 1)] [pI v2] (tJ2_get (some b4) (v1 - 1) u hx5) ⟨q1273, q813, q815, q131, q817⟩ iF_1 df_1 rfl ⟨(Nat.le_of_ble_eq_true rfl), (Nat.le_of_ble_eq_true rfl)⟩ zcl_5 rfl tb4 (by rw [← eb4]; rfl) (Nat.le_of_ble_eq_true rfl) dX0_isFact_20 ⟨Nat.le_refl 0, Nat.le_refl 0⟩ ?_
      obtain ⟨y6, hy6, hf⟩ := ob hf
      refine c_cast hy6 zok_Event q1423 dX0_isFact_25 ?_
      obtain ⟨x7, hx7, hf⟩ := ob hf
      refine c_getaN (ci := 18) (k := 1) hx7 zcl_18 (Nat.le_of_ble_eq_true rfl) zf_X0_332 fk_721 dX0_isFact_28 ?_
      obtain ⟨b8, hb8, hf⟩ := ob hf
      obtain ⟨eb8, tb8⟩ := ztg_s hb8
      obtain ⟨x9, hx9, hf⟩ := ob hf
      refine a_Fr (x := ix_0) [] [pI v2] (tJ2_size (some b8) u hx9) ⟨q556, q559, q561, q131, q563⟩ iF_0 df_0 rfl ⟨(Nat.le_of_ble_eq_true rfl), (Nat.le_of_ble_eq_true rfl)⟩ zcl_5 rfl tb8 (by rw [← eb8]; rfl) (Nat.le_of_ble_eq_true rfl) dX0_isFact_31 ⟨Nat.le_refl 0, Nat.le_refl 0⟩ ?_
      refine j_icmp_ge (w32 v2) (w32 x9) rfl rfl 43 dX0_isFact_36 (by decide) (fun h10 => ?_) (fun h10 => ?_)
      · replace hf := it h10 hf
        refine j_iconst dX0_isFact_43 ?_
        replace hf := Option.some.inj hf
        subst hf
        exact j_zreturn (x := 0) (bC_mv G A) ⟨Nat.le_refl 0, Nat.le_refl 0⟩ (ty := .boolean) rfl (nar_z (Or.inl rfl)) dX0_isFact_44
      · replace hf := ie h10 hf
        refine j_iconst dX0_isFact_39 ?_
        refine j_goto 44 dX0_isFact_40 (by decide) ?_
        replace hf := Option.some.inj hf
        subst hf
        exact j_zreturn (x := 1) (bC_mv G A) ⟨Nat.le_refl 0, Nat.le_refl 0⟩ (ty := .boolean) rfl (nar_z (Or.inr rfl)) dX0_isFact_44
theorem t9_has {G : CG} {A : Nat → Prop} {l : Launch} {r : Int} (v0 : Option Nat) (v1 : Int) (u : Sg) (hf : f9_has G v0 v1 u = some r) : JM kC (bC G A) A l yX9_has D9_has [pR v0, pI v1] u (some (pI r)) u 0 0 := by
  refine j_met (lv0 := [(0, pR v0), (1, pI v1)]) ⟨pl_X9, rfl, rfl, (Nat.le_of_ble_eq_true rfl), rfl⟩ ?_
  unfold f9_has at hf
  refine j_iload_n dX9_has_0 1 rfl ?_
  refine j_aload_n dX9_has_1 0 rfl ?_
  obtain ⟨x1, hx1, hf⟩ := ob hf
  refine c_geti (ci := 9) (k := 4) hx1 zcl_9 (Nat.le_of_ble_eq_true rfl) zf_X9_29 fk_364 dX9_has_2 ?_
  refine j_icmp_lt (w32 v1) (w32 x1) rfl rfl 20 dX9_has_5 (by decide) (fun h4 => ?_) (fun h4 => ?_)
  · replace hf := it h4 hf
    refine j_iconst dX9_has_20 ?_
    replace hf := Option.some.inj hf
    subst hf
    exact j_zreturn (x := 0) (bC_mv G A) ⟨Nat.le_refl 0, Nat.le_refl 0⟩ (ty := .boolean) rfl (nar_z (Or.inl rfl)) dX9_has_21
  · replace hf := ie h4 hf
    refine j_iload_n dX9_has_8 1 rfl ?_
    refine j_aload_n dX9_has_9 0 rfl ?_
    obtain ⟨x2, hx2, hf⟩ := ob hf
    refine c_geti (ci := 9) (k := 5) hx2 zcl_9 (Nat.le_of_ble_eq_true rfl) zf_X9_23 fk_365 dX9_has_10 ?_
    refine j_icmp_gt (w32 v1) (w32 x2) rfl rfl 20 dX9_has_13 (by decide) (fun h3 => ?_) (fun h3 => ?_)
    · replace hf := it h3 hf
      refine j_iconst dX9_has_20 ?_
      replace hf := Option.some.inj hf
      subst hf
      exact j_zreturn (x := 0) (bC_mv G A) ⟨Nat.le_refl 0, Nat.le_refl 0⟩ (ty := .boolean) rfl (nar_z (Or.inl rfl)) dX9_has_21
    · replace hf := ie h3 hf
      refine j_iconst dX9_has_16 ?_
      refine j_goto 21 dX9_has_17 (by decide) ?_
      replace hf := Option.some.inj hf
      subst hf
      exact j_zreturn (x := 1) (bC_mv G A) ⟨Nat.le_refl 0, Nat.le_refl 0⟩ (ty := .boolean) rfl (nar_z (Or.inr rfl)) dX9_has_21
theorem t19_add {G : CG} {A : Nat → Prop} {l : Launch} {r : Sg} (v0 : Option Nat) (v1 : Int) (v2 : Int) (u : Sg) (hf : f19_add G v0 v1 v2 u = some r) : JM kC (bC G A) A l yX19_add D19_add [pR v0, pI v1, pI v2] u none r 0 0 := by
  refine j_met (lv0 := [(0, pR v0), (1, pI v1), (2, pI v2)]) ⟨pl_X19, rfl, rfl, (Nat.le_of_ble_eq_true rfl), rfl⟩ ?_
  unfold f19_add at hf
  refine j_aload_n dX19_add_0 0 rfl ?_
  obtain ⟨x1, hx1, hf⟩ := ob hf
  refine c_geta (ci := 19) (k := 0) hx1 zcl_19 (Nat.le_of_ble_eq_true rfl) zf_X19_9 fk_760 dX19_add_1 ?_
  refine j_aload_n dX19_add_4 0 rfl ?_
  obtain ⟨x2, hx2, hf⟩ := ob hf
  refine c_geti (ci := 19) (k := 2) hx2 zcl_19 (Nat.le_of_ble_eq_true rfl) zf_X19_18 fk_762 dX19_add_5 ?_
  refine j_iload_n dX19_add_8 1 rfl ?_
  obtain ⟨u3, hu3, hf⟩ := ob hf
  refine c_iast hu3 dX19_add_9 ?_
  refine j_aload_n dX19_add_10 0 rfl ?_
  obtain ⟨x4, hx4, hf⟩ := ob hf
  refine c_geta (ci := 19) (k := 1) hx4 zcl_19 (Nat.le_of_ble_eq_true rfl) zf_X19_15 fk_761 dX19_add_11 ?_
  refine j_aload_n dX19_add_14 0 rfl ?_
  refine j_dup dX19_add_15 rfl ?_
  obtain ⟨x5, hx5, hf⟩ := ob hf
  refine c_geti (ci := 19) (k := 2) hx5 zcl_19 (Nat.le_of_ble_eq_true rfl) zf_X19_18 fk_762 dX19_add_16 ?_
  refine j_dup_x1 dX19_add_19 rfl rfl ?_
  refine j_iconst dX19_add_20 ?_
  refine j_iadd dX19_add_21 ?_
  obtain ⟨u6, hu6, hf⟩ := ob hf
  refine c_puti (ci := 19) (k := 2) hu6 zcl_19 (Nat.le_of_ble_eq_true rfl) zf_X19_18 fk_762 rfl fits_I dX19_add_22 ?_
  refine j_iload_n dX19_add_25 2 rfl ?_
  obtain ⟨u7, hu7, hf⟩ := ob hf
  refine c_iast hu7 dX19_add_26 ?_
  replace hf := Option.some.inj hf
  subst hf
  exact j_return (bC_mv G A) ⟨Nat.le_refl 0, Nat.le_refl 0⟩ rfl dX19_add_27
theorem t0_tell_b53 {G : CG} {A : Nat → Prop} {l : Launch} {a : List PV} {r : Int × Sg} (v0 : Option Nat) (v1 : Int) (v2 : Int) (v3 : Int) (v4 : Int) (u : Sg) (hf : f0_tell_b53 G v0 v1 v2 v3 v4 u = some r) : JW kC (bC G A) A l D0_tell a (jQ (bC G A) A a (some (pI r.1)) r.2 0 0) 0 0 u 0 0 53 [(0, pR v0), (1, pI v1), (2, pI v2), (3, pI v3), (4, pI v4)] [] := by
  unfold f0_tell_b53 at hf
  refine j_iload dX0_tell_53 4 rfl ?_
  obtain ⟨x1, hx1, hf⟩ := ob hf
  refine a_Sr [pI v4] [] (t0_isDay v4 u hx1) ⟨q1478, q1479, q128, q1480⟩ dv0_isDay rfl ⟨(Nat.le_of_ble_eq_true rfl), (Nat.le_of_ble_eq_true rfl)⟩ rfl (Nat.le_of_ble_eq_true rfl) dX0_tell_55 ⟨Nat.le_refl 0, Nat.le_refl 0⟩ ?_
  refine j_if_ne (w32 x1) rfl 64 dX0_tell_58 (by decide) (fun h15 => ?_) (fun h15 => ?_)
  · replace hf := ie h15 hf
    refine j_aload_n dX0_tell_64 0 rfl ?_
    obtain ⟨x2, hx2, hf⟩ := ob hf
    refine c_geta (ci := 0) (k := 6) hx2 zcl_0 (Nat.le_of_ble_eq_true rfl) zf_X0_86 fk_6 dX0_tell_65 ?_
    refine j_iload_n dX0_tell_68 1 rfl ?_
    refine j_iconst dX0_tell_69 ?_
    refine j_isub dX0_tell_70 ?_
    obtain ⟨b3, hb3, hf⟩ := ob hf
    obtain ⟨eb3, tb3⟩ := ztg_s hb3
    obtain ⟨x4, hx4, hf⟩ := ob hf
    refine a_Fr (x := ix_1) [pI (v1 - 1)] [] (tJ2_get (some b3) (v1 - 1) u hx4) ⟨q1273, q813, q815, q131, q817⟩ iF_1 df_1 rfl ⟨(Nat.le_of_ble_eq_true rfl), (Nat.le_of_ble_eq_true rfl)⟩ zcl_5 rfl tb3 (by rw [← eb3]; rfl) (Nat.le_of_ble_eq_true rfl) dX0_tell_71 ⟨Nat.le_refl 0, Nat.le_refl 0⟩ ?_
    obtain ⟨y5, hy5, hf⟩ := ob hf
    refine c_cast hy5 zok_Event q1423 dX0_tell_76 ?_
    obtain ⟨x6, hx6, hf⟩ := ob hf
    refine c_getaN (ci := 18) (k := 1) hx6 zcl_18 (Nat.le_of_ble_eq_true rfl) zf_X0_332 fk_721 dX0_tell_79 ?_
    refine j_iload_n dX0_tell_82 2 rfl ?_
    obtain ⟨b7, hb7, hf⟩ := ob hf
    obtain ⟨eb7, tb7⟩ := ztg_s hb7
    obtain ⟨x8, hx8, hf⟩ := ob hf
    refine a_Fr (x := ix_1) [pI v2] [] (tJ2_get (some b7) v2 u hx8) ⟨q1273, q813, q815, q131, q817⟩ iF_1 df_1 rfl ⟨(Nat.le_of_ble_eq_true rfl), (Nat.le_of_ble_eq_true rfl)⟩ zcl_5 rfl tb7 (by rw [← eb7]; rfl) (Nat.le_of_ble_eq_true rfl) dX0_tell_83 ⟨Nat.le_refl 0, Nat.le_refl 0⟩ ?_
    obtain ⟨y9, hy9, hf⟩ := ob hf
    refine c_cast hy9 zok_Known q1481 dX0_tell_88 ?_
    refine j_astore dX0_tell_91 [(5, pR x8), (0, pR v0), (1, pI v1), (2, pI v2), (3, pI v3), (4, pI v4)] (Nat.le_of_ble_eq_true rfl) rfl ?_
    refine j_aload dX0_tell_93 0 rfl ?_
    obtain ⟨x10, hx10, hf⟩ := ob hf
    refine c_getiN (ci := 19) (k := 2) hx10 zcl_19 (Nat.le_of_ble_eq_true rfl) zf_X0_348 fk_762 dX0_tell_95 ?_
    refine j_bipush dX0_tell_98 (by decide) ?_
    refine j_icmp_ne (w32 x10) 6 rfl rfl 106 dX0_tell_100 (by decide) (fun h14 => ?_) (fun h14 => ?_)
    · replace hf := ie h14 hf
      refine j_aload dX0_tell_106 0 rfl ?_
      refine j_iload_n dX0_tell_108 4 rfl ?_
      refine j_iload dX0_tell_109 5 rfl ?_
      obtain ⟨b11, hb11, hf⟩ := ob hf
      obtain ⟨eb11, tb11⟩ := ztg_s hb11
      obtain ⟨u12, hu12, hf⟩ := ob hf
      refine a_Vv [pI v3, pI v4] [] (t19_add (some b11) v3 v4 u hu12) ⟨q1482, q1483, q1484, q167, q1485⟩ dv19_add rfl ⟨(Nat.le_of_ble_eq_true rfl), (Nat.le_of_ble_eq_true rfl)⟩ (c_recv zcl_19 tb11) (by rw [← eb11]; rfl) (Nat.le_of_ble_eq_true rfl) dX0_tell_111 ⟨Nat.le_refl 0, Nat.le_refl 0⟩ ?_
      refine j_aload dX0_tell_114 0 rfl ?_
      obtain ⟨x13, hx13, hf⟩ := ob hf
      refine c_getiN (ci := 19) (k := 2) hx13 zcl_19 (Nat.le_of_ble_eq_true rfl) zf_X0_348 fk_762 dX0_tell_116 ?_
      replace hf := Option.some.inj hf
      subst hf
      exact j_ireturn (bC_mv G A) ⟨Nat.le_refl 0, Nat.le_refl 0⟩ rfl dX0_tell_119
    · replace hf := it h14 hf
      refine j_bipush dX0_tell_103 (by decide) ?_
      replace hf := Option.some.inj hf
      subst hf
      exact j_ireturn (bC_mv G A) ⟨Nat.le_refl 0, Nat.le_refl 0⟩ rfl dX0_tell_105
  · replace hf := it h15 hf
    refine j_bipush dX0_tell_61 (by decide) ?_
    replace hf := Option.some.inj hf
    subst hf
    exact j_ireturn (bC_mv G A) ⟨Nat.le_refl 0, Nat.le_refl 0⟩ rfl dX0_tell_63
theorem t0_tell {G : CG} {A : Nat → Prop} {l : Launch} {r : Int × Sg} (v0 : Option Nat) (v1 : Int) (v2 : Int) (v3 : Int) (v4 : Int) (u : Sg) (hf : f0_tell G v0 v1 v2 v3 v4 u = some r) : JM kC (bC G A) A l yX0_tell D0_tell [pR v0, pI v1, pI v2, pI v3, pI v4] u (some (pI r.1)) r.2 0 0 := by
  refine j_met (lv0 := [(0, pR v0), (1, pI v1), (2, pI v2), (3, pI v3), (4, pI v4)]) ⟨pl_X0, rfl, rfl, (Nat.le_of_ble_eq_true rfl), rfl⟩ ?_
  unfold f0_tell at hf
  refine j_aload_n dX0_tell_0 0 rfl ?_
  refine j_iload_n dX0_tell_1 1 rfl ?_
  refine j_iload_n dX0_tell_2 2 rfl ?_
  obtain ⟨b1, hb1, hf⟩ := ob hf
  obtain ⟨eb1, tb1⟩ := ztg_s hb1
  obtain ⟨x2, hx2, hf⟩ := ob hf
  refine a_Vr [pI v1, pI v2] [] (t0_isFact (some b1) v1 v2 u hx2) ⟨q1466, q1468, qs39, q128, q1469⟩ dv0_isFact rfl ⟨(Nat.le_of_ble_eq_true rfl), (Nat.le_of_ble_eq_true rfl)⟩ (c_recv zcl_0 tb1) (by rw [← eb1]; rfl) (Nat.le_of_ble_eq_true rfl) dX0_tell_3 ⟨Nat.le_refl 0, Nat.le_refl 0⟩ ?_
  refine j_if_ne (w32 x2) rfl 11 dX0_tell_6 (by decide) (fun h16 => ?_) (fun h16 => ?_)
  · replace hf := ie h16 hf
    refine j_iload_n dX0_tell_11 3 rfl ?_
    refine j_iconst dX0_tell_12 ?_
    refine j_icmp_eq (w32 v3) (-1) rfl rfl 53 dX0_tell_13 (by decide) (fun h15 => ?_) (fun h15 => ?_)
    · replace hf := it h15 hf
      exact j_sub [0, 1, 2, 3, 4] _ rfl (t0_tell_b53 v0 v1 v2 v3 v4 u hf)
    · replace hf := ie h15 hf
      refine j_aload_n dX0_tell_16 0 rfl ?_
      obtain ⟨x3, hx3, hf⟩ := ob hf
      refine c_geta (ci := 0) (k := 6) hx3 zcl_0 (Nat.le_of_ble_eq_true rfl) zf_X0_86 fk_6 dX0_tell_17 ?_
      refine j_iload_n dX0_tell_20 1 rfl ?_
      refine j_iconst dX0_tell_21 ?_
      refine j_isub dX0_tell_22 ?_
      obtain ⟨b4, hb4, hf⟩ := ob hf
      obtain ⟨eb4, tb4⟩ := ztg_s hb4
      obtain ⟨x5, hx5, hf⟩ := ob hf
      refine a_Fr (x := ix_1) [pI (v1 - 1)] [] (tJ2_get (some b4) (v1 - 1) u hx5) ⟨q1273, q813, q815, q131, q817⟩ iF_1 df_1 rfl ⟨(Nat.le_of_ble_eq_true rfl), (Nat.le_of_ble_eq_true rfl)⟩ zcl_5 rfl tb4 (by rw [← eb4]; rfl) (Nat.le_of_ble_eq_true rfl) dX0_tell_23 ⟨Nat.le_refl 0, Nat.le_refl 0⟩ ?_
      obtain ⟨y6, hy6, hf⟩ := ob hf
      refine c_cast hy6 zok_Event q1423 dX0_tell_28 ?_
      obtain ⟨x7, hx7, hf⟩ := ob hf
      refine c_getaN (ci := 18) (k := 0) hx7 zcl_18 (Nat.le_of_ble_eq_true rfl) zf_X0_337 fk_720 dX0_tell_31 ?_
      obtain ⟨x8, hx8, hf⟩ := ob hf
      refine c_getaN (ci := 6) (k := 0) hx8 zcl_6 (Nat.le_of_ble_eq_true rfl) zf_X0_240 fk_240 dX0_tell_34 ?_
      refine j_iload_n dX0_tell_37 2 rfl ?_
      obtain ⟨b9, hb9, hf⟩ := ob hf
      obtain ⟨eb9, tb9⟩ := ztg_s hb9
      obtain ⟨x10, hx10, hf⟩ := ob hf
      refine a_Fr (x := ix_1) [pI v2] [] (tJ2_get (some b9) v2 u hx10) ⟨q1273, q813, q815, q131, q817⟩ iF_1 df_1 rfl ⟨(Nat.le_of_ble_eq_true rfl), (Nat.le_of_ble_eq_true rfl)⟩ zcl_5 rfl tb9 (by rw [← eb9]; rfl) (Nat.le_of_ble_eq_true rfl) dX0_tell_38 ⟨Nat.le_refl 0, Nat.le_refl 0⟩ ?_
      obtain ⟨y11, hy11, hf⟩ := ob hf
      refine c_cast hy11 zok_Fact q1340 dX0_tell_43 ?_
      refine j_iload_n dX0_tell_46 3 rfl ?_
      obtain ⟨b12, hb12, hf⟩ := ob hf
      obtain ⟨eb12, tb12⟩ := ztg_s hb12
      obtain ⟨x13, hx13, hf⟩ := ob hf
      refine a_Vr [pI v3] [] (t9_has (some b12) v3 u hx13) ⟨q1474, q1475, q1476, q152, q1477⟩ dv9_has rfl ⟨(Nat.le_of_ble_eq_true rfl), (Nat.le_of_ble_eq_true rfl)⟩ (c_recv zcl_9 tb12) (by rw [← eb12]; rfl) (Nat.le_of_ble_eq_true rfl) dX0_tell_47 ⟨Nat.le_refl 0, Nat.le_refl 0⟩ ?_
      refine j_if_eq (w32 x13) rfl 61 dX0_tell_50 (by decide) (fun h14 => ?_) (fun h14 => ?_)
      · replace hf := it h14 hf
        refine j_bipush dX0_tell_61 (by decide) ?_
        replace hf := Option.some.inj hf
        subst hf
        exact j_ireturn (bC_mv G A) ⟨Nat.le_refl 0, Nat.le_refl 0⟩ rfl dX0_tell_63
      · replace hf := ie h14 hf
        exact j_sub [0, 1, 2, 3, 4] _ rfl (t0_tell_b53 v0 v1 v2 v3 v4 u hf)
  · replace hf := it h16 hf
    refine j_iconst dX0_tell_9 ?_
    replace hf := Option.some.inj hf
    subst hf
    exact j_ireturn (bC_mv G A) ⟨Nat.le_refl 0, Nat.le_refl 0⟩ rfl dX0_tell_10
theorem t19_on_b45 {G : CG} {A : Nat → Prop} {l : Launch} {a : List PV} {r : Int} {Kf : Int → Option (Int)} {v0 : Option Nat} {v1 : Int} {v2 : Int} {u : Sg} (kh : Int → Int → Option (Int)) (hkh : ∀ (z3 : Int) (z4 : Int), ((kh z3 z4).bind Kf = some r) → JW kC (bC G A) A l D19_on a (jQ (bC G A) A a (some (pI r)) u 0 0) 0 0 u 0 0 5 [(0, pR v0), (1, pI v1), (2, pI v2), (3, pI z3), (4, pI z4)] []) (hK0 : ∀ q : Int, Kf q = some r → JW kC (bC G A) A l D19_on a (jQ (bC G A) A a (some (pI r)) u 0 0) 0 0 u 0 0 54 [(0, pR v0), (2, pI v2), (3, pI q)] []) (v4 : Int) (hf : (f19_on_b45 G kh v0 v1 v2 v4 u).bind Kf = some r) : JW kC (bC G A) A l D19_on a (jQ (bC G A) A a (some (pI r)) u 0 0) 0 0 u 0 0 45 [(0, pR v0), (1, pI v1), (2, pI v2), (4, pI v4)] [] := by
  unfold f19_on_b45 at hf
  refine j_iload dX19_on_45 3 rfl ?_
  refine j_istore_n dX19_on_47 [(3, pI v4), (0, pR v0), (1, pI v1), (2, pI v2), (4, pI v4)] (Nat.le_of_ble_eq_true rfl) rfl ?_
  refine j_iinc dX19_on_48 4 rfl [(4, pI (v4 + 1)), (3, pI v4), (0, pR v0), (1, pI v1), (2, pI v2)] (Nat.le_of_ble_eq_true rfl) rfl ?_
  refine j_goto 5 dX19_on_51 (by decide) ?_
  exact j_sub [2, 3, 4, 1, 0] _ rfl (hkh v4 (v4 + 1) hf)
theorem t19_on_l5 {G : CG} {A : Nat → Prop} {l : Launch} {a : List PV} {r : Int} {Kf : Int → Option (Int)} (v0 : Option Nat) (v1 : Int) (v2 : Int) (u : Sg) (hK0 : ∀ q : Int, Kf q = some r → JW kC (bC G A) A l D19_on a (jQ (bC G A) A a (some (pI r)) u 0 0) 0 0 u 0 0 54 [(0, pR v0), (2, pI v2), (3, pI q)] []) : ∀ (n : Nat) (v3 : Int) (v4 : Int), ((f19_on_l5 G v0 v1 v2 u n v3 v4).bind Kf = some r) → JW kC (bC G A) A l D19_on a (jQ (bC G A) A a (some (pI r)) u 0 0) 0 0 u 0 0 5 [(0, pR v0), (1, pI v1), (2, pI v2), (3, pI v3), (4, pI v4)] [] := by
  intro n
  induction n with
  | zero => intro v3 v4 hf; exact onb hf
  | succ n ih =>
    intro v3 v4 hf
    unfold f19_on_l5 at hf
    refine j_iload dX19_on_5 4 rfl ?_
    refine j_aload_n dX19_on_7 0 rfl ?_
    obtain ⟨x1, hx1, hf⟩ := obb hf
    refine c_geti (ci := 19) (k := 2) hx1 zcl_19 (Nat.le_of_ble_eq_true rfl) zf_X19_18 fk_762 dX19_on_8 ?_
    refine j_icmp_ge (w32 v4) (w32 x1) rfl rfl 54 dX19_on_11 (by decide) (fun h11 => ?_) (fun h11 => ?_)
    · replace hf := itb h11 hf
      exact j_sub [0, 2, 3] _ rfl (hK0 v3 hf)
    · replace hf := ieb h11 hf
      refine j_aload_n dX19_on_14 0 rfl ?_
      obtain ⟨x2, hx2, hf⟩ := obb hf
      refine c_geta (ci := 19) (k := 1) hx2 zcl_19 (Nat.le_of_ble_eq_true rfl) zf_X19_15 fk_761 dX19_on_15 ?_
      refine j_iload dX19_on_18 4 rfl ?_
      obtain ⟨x3, hx3, hf⟩ := obb hf
      refine c_iald hx3 dX19_on_20 ?_
      refine j_iload_n dX19_on_21 1 rfl ?_
      refine j_icmp_gt (w32 x3) (w32 v1) rfl rfl 48 dX19_on_22 (by decide) (fun h10 => ?_) (fun h10 => ?_)
      · replace hf := itb h10 hf
        refine j_iinc dX19_on_48 4 rfl [(4, pI (v4 + 1)), (0, pR v0), (1, pI v1), (2, pI v2), (3, pI v3)] (Nat.le_of_ble_eq_true rfl) rfl ?_
        refine j_goto 5 dX19_on_51 (by decide) ?_
        exact j_sub [1, 2, 3, 4, 0] _ rfl (ih v3 (v4 + 1) hf)
      · replace hf := ieb h10 hf
        refine j_iload_n dX19_on_25 3 rfl ?_
        refine j_if_lt (w32 v3) rfl 45 dX19_on_26 (by decide) (fun h9 => ?_) (fun h9 => ?_)
        · replace hf := itb h9 hf
          exact j_sub [0, 1, 2, 4] _ rfl (t19_on_b45 (f19_on_l5 G v0 v1 v2 u n) ih hK0 v4 hf)
        · replace hf := ieb h9 hf
          refine j_aload_n dX19_on_29 0 rfl ?_
          obtain ⟨x4, hx4, hf⟩ := obb hf
          refine c_geta (ci := 19) (k := 1) hx4 zcl_19 (Nat.le_of_ble_eq_true rfl) zf_X19_15 fk_761 dX19_on_30 ?_
          refine j_iload dX19_on_33 4 rfl ?_
          obtain ⟨x5, hx5, hf⟩ := obb hf
          refine c_iald hx5 dX19_on_35 ?_
          refine j_aload_n dX19_on_36 0 rfl ?_
          obtain ⟨x6, hx6, hf⟩ := obb hf
          refine c_geta (ci := 19) (k := 1) hx6 zcl_19 (Nat.le_of_ble_eq_true rfl) zf_X19_15 fk_761 dX19_on_37 ?_
          refine j_iload_n dX19_on_40 3 rfl ?_
          obtain ⟨x7, hx7, hf⟩ := obb hf
          refine c_iald hx7 dX19_on_41 ?_
          refine j_icmp_lt (w32 x5) (w32 x7) rfl rfl 48 dX19_on_42 (by decide) (fun h8 => ?_) (fun h8 => ?_)
          · replace hf := itb h8 hf
            refine j_iinc dX19_on_48 4 rfl [(4, pI (v4 + 1)), (0, pR v0), (1, pI v1), (2, pI v2), (3, pI v3)] (Nat.le_of_ble_eq_true rfl) rfl ?_
            refine j_goto 5 dX19_on_51 (by decide) ?_
            exact j_sub [1, 2, 3, 4, 0] _ rfl (ih v3 (v4 + 1) hf)
          · replace hf := ieb h8 hf
            exact j_sub [0, 1, 2, 4] _ rfl (t19_on_b45 (f19_on_l5 G v0 v1 v2 u n) ih hK0 v4 hf)
theorem t19_on {G : CG} {A : Nat → Prop} {l : Launch} {r : Int} (v0 : Option Nat) (v1 : Int) (v2 : Int) (u : Sg) (hf : f19_on G v0 v1 v2 u = some r) : JM kC (bC G A) A l yX19_on D19_on [pR v0, pI v1, pI v2] u (some (pI r)) u 0 0 := by
  refine j_met (lv0 := [(0, pR v0), (1, pI v1), (2, pI v2)]) ⟨pl_X19, rfl, rfl, (Nat.le_of_ble_eq_true rfl), rfl⟩ ?_
  unfold f19_on at hf
  refine j_iconst dX19_on_0 ?_
  refine j_istore_n dX19_on_1 [(3, pI (-1)), (0, pR v0), (1, pI v1), (2, pI v2)] (Nat.le_of_ble_eq_true rfl) rfl ?_
  refine j_iconst dX19_on_2 ?_
  refine j_istore dX19_on_3 [(4, pI 0), (3, pI (-1)), (0, pR v0), (1, pI v1), (2, pI v2)] (Nat.le_of_ble_eq_true rfl) rfl ?_
  refine j_sub [2, 3, 4, 1, 0] _ rfl (t19_on_l5 v0 v1 v2 u ?_ NN (-1) 0 hf)
  · intro q1 hf
    refine j_iload_n dX19_on_54 2 rfl ?_
    refine j_if_ge (w32 q1) rfl 62 dX19_on_55 (by decide) (fun h4 => ?_) (fun h4 => ?_)
    · replace hf := it h4 hf
      refine j_aload_n dX19_on_62 0 rfl ?_
      obtain ⟨x2, hx2, hf⟩ := ob hf
      refine c_geta (ci := 19) (k := 0) hx2 zcl_19 (Nat.le_of_ble_eq_true rfl) zf_X19_9 fk_760 dX19_on_63 ?_
      refine j_iload_n dX19_on_66 2 rfl ?_
      obtain ⟨x3, hx3, hf⟩ := ob hf
      refine c_iald hx3 dX19_on_67 ?_
      replace hf := Option.some.inj hf
      subst hf
      exact j_ireturn (bC_mv G A) ⟨Nat.le_refl 0, Nat.le_refl 0⟩ rfl dX19_on_68
    · replace hf := ie h4 hf
      refine j_iload_n dX19_on_58 1 rfl ?_
      refine j_goto 68 dX19_on_59 (by decide) ?_
      replace hf := Option.some.inj hf
      subst hf
      exact j_ireturn (bC_mv G A) ⟨Nat.le_refl 0, Nat.le_refl 0⟩ rfl dX19_on_68
theorem t0_fact {G : CG} {A : Nat → Prop} {l : Launch} {r : Int} (v0 : Option Nat) (v1 : Int) (v2 : Int) (v3 : Int) (u : Sg) (hf : f0_fact G v0 v1 v2 v3 u = some r) : JM kC (bC G A) A l yX0_fact D0_fact [pR v0, pI v1, pI v2, pI v3] u (some (pI r)) u 0 0 := by
  refine j_met (lv0 := [(0, pR v0), (1, pI v1), (2, pI v2), (3, pI v3)]) ⟨pl_X0, rfl, rfl, (Nat.le_of_ble_eq_true rfl), rfl⟩ ?_
  unfold f0_fact at hf
  refine j_aload_n dX0_fact_0 0 rfl ?_
  refine j_iload_n dX0_fact_1 1 rfl ?_
  refine j_iload_n dX0_fact_2 2 rfl ?_
  obtain ⟨b1, hb1, hf⟩ := ob hf
  obtain ⟨eb1, tb1⟩ := ztg_s hb1
  obtain ⟨x2, hx2, hf⟩ := ob hf
  refine a_Vr [pI v1, pI v2] [] (t0_isFact (some b1) v1 v2 u hx2) ⟨q1466, q1468, qs39, q128, q1469⟩ dv0_isFact rfl ⟨(Nat.le_of_ble_eq_true rfl), (Nat.le_of_ble_eq_true rfl)⟩ (c_recv zcl_0 tb1) (by rw [← eb1]; rfl) (Nat.le_of_ble_eq_true rfl) dX0_fact_3 ⟨Nat.le_refl 0, Nat.le_refl 0⟩ ?_
  refine j_if_ne (w32 x2) rfl 11 dX0_fact_6 (by decide) (fun h15 => ?_) (fun h15 => ?_)
  · replace hf := ie h15 hf
    refine j_iload_n dX0_fact_11 3 rfl ?_
    obtain ⟨x3, hx3, hf⟩ := ob hf
    refine a_Sr [pI v3] [] (t0_isDay v3 u hx3) ⟨q1478, q1479, q128, q1480⟩ dv0_isDay rfl ⟨(Nat.le_of_ble_eq_true rfl), (Nat.le_of_ble_eq_true rfl)⟩ rfl (Nat.le_of_ble_eq_true rfl) dX0_fact_12 ⟨Nat.le_refl 0, Nat.le_refl 0⟩ ?_
    refine j_if_eq (w32 x3) rfl 53 dX0_fact_15 (by decide) (fun h14 => ?_) (fun h14 => ?_)
    · replace hf := it h14 hf
      refine j_bipush dX0_fact_53 (by decide) ?_
      replace hf := Option.some.inj hf
      subst hf
      exact j_ireturn (bC_mv G A) ⟨Nat.le_refl 0, Nat.le_refl 0⟩ rfl dX0_fact_55
    · replace hf := ie h14 hf
      refine j_aload_n dX0_fact_18 0 rfl ?_
      obtain ⟨x4, hx4, hf⟩ := ob hf
      refine c_geta (ci := 0) (k := 6) hx4 zcl_0 (Nat.le_of_ble_eq_true rfl) zf_X0_86 fk_6 dX0_fact_19 ?_
      refine j_iload_n dX0_fact_22 1 rfl ?_
      refine j_iconst dX0_fact_23 ?_
      refine j_isub dX0_fact_24 ?_
      obtain ⟨b5, hb5, hf⟩ := ob hf
      obtain ⟨eb5, tb5⟩ := ztg_s hb5
      obtain ⟨x6, hx6, hf⟩ := ob hf
      refine a_Fr (x := ix_1) [pI (v1 - 1)] [] (tJ2_get (some b5) (v1 - 1) u hx6) ⟨q1273, q813, q815, q131, q817⟩ iF_1 df_1 rfl ⟨(Nat.le_of_ble_eq_true rfl), (Nat.le_of_ble_eq_true rfl)⟩ zcl_5 rfl tb5 (by rw [← eb5]; rfl) (Nat.le_of_ble_eq_true rfl) dX0_fact_25 ⟨Nat.le_refl 0, Nat.le_refl 0⟩ ?_
      obtain ⟨y7, hy7, hf⟩ := ob hf
      refine c_cast hy7 zok_Event q1423 dX0_fact_30 ?_
      obtain ⟨x8, hx8, hf⟩ := ob hf
      refine c_getaN (ci := 18) (k := 1) hx8 zcl_18 (Nat.le_of_ble_eq_true rfl) zf_X0_332 fk_721 dX0_fact_33 ?_
      refine j_iload_n dX0_fact_36 2 rfl ?_
      obtain ⟨b9, hb9, hf⟩ := ob hf
      obtain ⟨eb9, tb9⟩ := ztg_s hb9
      obtain ⟨x10, hx10, hf⟩ := ob hf
      refine a_Fr (x := ix_1) [pI v2] [] (tJ2_get (some b9) v2 u hx10) ⟨q1273, q813, q815, q131, q817⟩ iF_1 df_1 rfl ⟨(Nat.le_of_ble_eq_true rfl), (Nat.le_of_ble_eq_true rfl)⟩ zcl_5 rfl tb9 (by rw [← eb9]; rfl) (Nat.le_of_ble_eq_true rfl) dX0_fact_37 ⟨Nat.le_refl 0, Nat.le_refl 0⟩ ?_
      obtain ⟨y11, hy11, hf⟩ := ob hf
      refine c_cast hy11 zok_Known q1481 dX0_fact_42 ?_
      refine j_iload_n dX0_fact_45 3 rfl ?_
      refine j_iconst dX0_fact_46 ?_
      obtain ⟨b12, hb12, hf⟩ := ob hf
      obtain ⟨eb12, tb12⟩ := ztg_s hb12
      obtain ⟨x13, hx13, hf⟩ := ob hf
      refine a_Vr [pI v3, pI (-1)] [] (t19_on (some b12) v3 (-1) u hx13) ⟨q1490, q1491, q1492, q167, q1493⟩ dv19_on rfl ⟨(Nat.le_of_ble_eq_true rfl), (Nat.le_of_ble_eq_true rfl)⟩ (c_recv zcl_19 tb12) (by rw [← eb12]; rfl) (Nat.le_of_ble_eq_true rfl) dX0_fact_47 ⟨Nat.le_refl 0, Nat.le_refl 0⟩ ?_
      refine j_goto 55 dX0_fact_50 (by decide) ?_
      replace hf := Option.some.inj hf
      subst hf
      exact j_ireturn (bC_mv G A) ⟨Nat.le_refl 0, Nat.le_refl 0⟩ rfl dX0_fact_55
  · replace hf := it h15 hf
    refine j_iconst dX0_fact_9 ?_
    replace hf := Option.some.inj hf
    subst hf
    exact j_ireturn (bC_mv G A) ⟨Nat.le_refl 0, Nat.le_refl 0⟩ rfl dX0_fact_10
theorem t2_set_b105 {G : CG} {A : Nat → Prop} {l : Launch} {a : List PV} {r : Sg} {Kf : Sg → Option (Sg)} {v0 : Option Nat} {v1 : Option Nat} {v2 : Option Nat} {v3 : Int} (kh : Int → Int → Sg → Option (Sg)) (hkh : ∀ (z4 : Int) (z5 : Int) (zu : Sg), ((kh z4 z5 zu).bind Kf = some r) → JW kC (bC G A) A l D2_set a (jQ (bC G A) A a none r 0 0) 0 0 zu 0 0 26 [(0, pR v0), (1, pR v1), (2, pR v2), (3, pI v3), (4, pI z4), (5, pI z5)] []) (hK0 : ∀ q : Sg, Kf q = some r → JW kC (bC G A) A l D2_set a (jQ (bC G A) A a none r 0 0) 0 0 q 0 0 146 [] []) (v4 : Int) (v5 : Int) (s0 : Option Nat) (s1 : Int) (s2 : Int) (u : Sg) (hf : (f2_set_b105 G kh v0 v1 v2 v3 v4 v5 s0 s1 s2 u).bind Kf = some r) : JW kC (bC G A) A l D2_set a (jQ (bC G A) A a none r 0 0) 0 0 u 0 0 105 [(0, pR v0), (1, pR v1), (2, pR v2), (3, pI v3), (4, pI v4), (5, pI v5)] [pI s2, pI s1, pR s0] := by
  unfold f2_set_b105 at hf
  refine j_ior dX2_set_105 ?_
  obtain ⟨u1, hu1, hf⟩ := obb hf
  refine c_puti (ci := 2) (k := 2) hu1 zcl_2 (Nat.le_of_ble_eq_true rfl) zf_X2_33 fk_82 rfl fits_I dX2_set_106 ?_
  refine j_aload_n dX2_set_109 0 rfl ?_
  obtain ⟨x2, hx2, hf⟩ := obb hf
  refine c_geta (ci := 2) (k := 3) hx2 zcl_2 (Nat.le_of_ble_eq_true rfl) zf_X2_19 fk_83 dX2_set_110 ?_
  refine j_iload dX2_set_113 5 rfl ?_
  refine j_iload dX2_set_115 4 rfl ?_
  obtain ⟨u3, hu3, hf⟩ := obb hf
  refine c_iast hu3 dX2_set_117 ?_
  refine j_iload dX2_set_118 4 rfl ?_
  refine j_aload_n dX2_set_120 1 rfl ?_
  obtain ⟨x4, hx4, hf⟩ := obb hf
  refine c_getaN (ci := 6) (k := 10) hx4 zcl_6 (Nat.le_of_ble_eq_true rfl) zf_X2_62 fk_250 dX2_set_121 ?_
  refine j_iload dX2_set_124 5 rfl ?_
  obtain ⟨b5, hb5, hf⟩ := obb hf
  obtain ⟨eb5, tb5⟩ := ztg_s hb5
  obtain ⟨x6, hx6, hf⟩ := obb hf
  refine a_Fr (x := ix_1) [pI v5] [pI v4] (tJ2_get (some b5) v5 u3 hx6) ⟨q1509, q813, q815, q131, q817⟩ iF_1 df_1 rfl ⟨(Nat.le_of_ble_eq_true rfl), (Nat.le_of_ble_eq_true rfl)⟩ zcl_5 rfl tb5 (by rw [← eb5]; rfl) (Nat.le_of_ble_eq_true rfl) dX2_set_126 ⟨Nat.le_refl 0, Nat.le_refl 0⟩ ?_
  obtain ⟨y7, hy7, hf⟩ := obb hf
  refine c_cast hy7 zok_Starts q1512 dX2_set_131 ?_
  obtain ⟨x8, hx8, hf⟩ := obb hf
  refine c_getiN (ci := 4) (k := 1) hx8 zcl_4 (Nat.le_of_ble_eq_true rfl) zf_X2_71 fk_161 dX2_set_134 ?_
  refine j_imul dX2_set_137 ?_
  refine j_istore dX2_set_138 [(4, pI (v4 * x8)), (0, pR v0), (1, pR v1), (2, pR v2), (3, pI v3), (5, pI v5)] (Nat.le_of_ble_eq_true rfl) rfl ?_
  refine j_iinc dX2_set_140 5 rfl [(5, pI (v5 + (-1))), (4, pI (v4 * x8)), (0, pR v0), (1, pR v1), (2, pR v2), (3, pI v3)] (Nat.le_of_ble_eq_true rfl) rfl ?_
  refine j_goto 26 dX2_set_143 (by decide) ?_
  exact j_sub [2, 3, 4, 5, 1, 0] _ rfl (hkh (v4 * x8) (v5 + (-1)) u3 hf)
theorem t2_set_b86 {G : CG} {A : Nat → Prop} {l : Launch} {a : List PV} {r : Sg} {Kf : Sg → Option (Sg)} {v0 : Option Nat} {v1 : Option Nat} {v2 : Option Nat} {v3 : Int} (kh : Int → Int → Sg → Option (Sg)) (hkh : ∀ (z4 : Int) (z5 : Int) (zu : Sg), ((kh z4 z5 zu).bind Kf = some r) → JW kC (bC G A) A l D2_set a (jQ (bC G A) A a none r 0 0) 0 0 zu 0 0 26 [(0, pR v0), (1, pR v1), (2, pR v2), (3, pI v3), (4, pI z4), (5, pI z5)] []) (hK0 : ∀ q : Sg, Kf q = some r → JW kC (bC G A) A l D2_set a (jQ (bC G A) A a none r 0 0) 0 0 q 0 0 146 [] []) (v4 : Int) (v5 : Int) (v6 : Int) (s0 : Option Nat) (s1 : Int) (s2 : Int) (u : Sg) (hf : (f2_set_b86 G kh v0 v1 v2 v3 v4 v5 v6 s0 s1 s2 u).bind Kf = some r) : JW kC (bC G A) A l D2_set a (jQ (bC G A) A a none r 0 0) 0 0 u 0 0 86 [(0, pR v0), (1, pR v1), (2, pR v2), (3, pI v3), (4, pI v4), (5, pI v5), (6, pI v6)] [pI s2, pI s1, pR s0] := by
  unfold f2_set_b86 at hf
  obtain ⟨u1, hu1, hf⟩ := obb hf
  refine c_iast hu1 dX2_set_86 ?_
  refine j_aload_n dX2_set_87 0 rfl ?_
  refine j_dup dX2_set_88 rfl ?_
  obtain ⟨x2, hx2, hf⟩ := obb hf
  refine c_geti (ci := 2) (k := 2) hx2 zcl_2 (Nat.le_of_ble_eq_true rfl) zf_X2_33 fk_82 dX2_set_89 ?_
  refine j_iload dX2_set_92 6 rfl ?_
  refine j_if_ge (w32 v6) rfl 101 dX2_set_94 (by decide) (fun h3 => ?_) (fun h3 => ?_)
  · replace hf := itb h3 hf
    refine j_iconst dX2_set_101 ?_
    refine j_iload dX2_set_102 5 rfl ?_
    refine j_ishl dX2_set_104 ?_
    exact j_sub [0, 1, 2, 3, 4, 5] _ rfl (t2_set_b105 (kh) hkh hK0 v4 v5 v0 x2 (shl32 1 v5) u1 hf)
  · replace hf := ieb h3 hf
    refine j_iconst dX2_set_97 ?_
    refine j_goto 105 dX2_set_98 (by decide) ?_
    exact j_sub [0, 1, 2, 3, 4, 5] _ rfl (t2_set_b105 (kh) hkh hK0 v4 v5 v0 x2 0 u1 hf)
theorem t2_set_l26 {G : CG} {A : Nat → Prop} {l : Launch} {a : List PV} {r : Sg} {Kf : Sg → Option (Sg)} (v0 : Option Nat) (v1 : Option Nat) (v2 : Option Nat) (v3 : Int) (hK0 : ∀ q : Sg, Kf q = some r → JW kC (bC G A) A l D2_set a (jQ (bC G A) A a none r 0 0) 0 0 q 0 0 146 [] []) : ∀ (n : Nat) (v4 : Int) (v5 : Int) (u : Sg), ((f2_set_l26 G v0 v1 v2 v3 n v4 v5 u).bind Kf = some r) → JW kC (bC G A) A l D2_set a (jQ (bC G A) A a none r 0 0) 0 0 u 0 0 26 [(0, pR v0), (1, pR v1), (2, pR v2), (3, pI v3), (4, pI v4), (5, pI v5)] [] := by
  intro n
  induction n with
  | zero => intro v4 v5 u hf; exact onb hf
  | succ n ih =>
    intro v4 v5 u hf
    unfold f2_set_l26 at hf
    refine j_iload dX2_set_26 5 rfl ?_
    refine j_if_lt (w32 v5) rfl 146 dX2_set_28 (by decide) (fun h15 => ?_) (fun h15 => ?_)
    · replace hf := itb h15 hf
      exact j_sub [] _ rfl (hK0 u hf)
    · replace hf := ieb h15 hf
      refine j_aload_n dX2_set_31 2 rfl ?_
      obtain ⟨x1, hx1, hf⟩ := obb hf
      refine c_getaN (ci := 18) (k := 1) hx1 zcl_18 (Nat.le_of_ble_eq_true rfl) zf_X2_49 fk_721 dX2_set_32 ?_
      refine j_iload dX2_set_35 5 rfl ?_
      obtain ⟨b2, hb2, hf⟩ := obb hf
      obtain ⟨eb2, tb2⟩ := ztg_s hb2
      obtain ⟨x3, hx3, hf⟩ := obb hf
      refine a_Fr (x := ix_1) [pI v5] [] (tJ2_get (some b2) v5 u hx3) ⟨q1509, q813, q815, q131, q817⟩ iF_1 df_1 rfl ⟨(Nat.le_of_ble_eq_true rfl), (Nat.le_of_ble_eq_true rfl)⟩ zcl_5 rfl tb2 (by rw [← eb2]; rfl) (Nat.le_of_ble_eq_true rfl) dX2_set_37 ⟨Nat.le_refl 0, Nat.le_refl 0⟩ ?_
      obtain ⟨y4, hy4, hf⟩ := obb hf
      refine c_cast hy4 zok_Known q1510 dX2_set_42 ?_
      refine j_iload_n dX2_set_45 3 rfl ?_
      refine j_iconst dX2_set_46 ?_
      obtain ⟨b5, hb5, hf⟩ := obb hf
      obtain ⟨eb5, tb5⟩ := ztg_s hb5
      obtain ⟨x6, hx6, hf⟩ := obb hf
      refine a_Vr [pI v3, pI (-1)] [] (t19_on (some b5) v3 (-1) u hx6) ⟨q1511, q1491, q1492, q167, q1493⟩ dv19_on rfl ⟨(Nat.le_of_ble_eq_true rfl), (Nat.le_of_ble_eq_true rfl)⟩ (c_recv zcl_19 tb5) (by rw [← eb5]; rfl) (Nat.le_of_ble_eq_true rfl) dX2_set_47 ⟨Nat.le_refl 0, Nat.le_refl 0⟩ ?_
      refine j_istore dX2_set_50 [(6, pI x6), (0, pR v0), (1, pR v1), (2, pR v2), (3, pI v3), (4, pI v4), (5, pI v5)] (Nat.le_of_ble_eq_true rfl) rfl ?_
      refine j_aload_n dX2_set_52 1 rfl ?_
      obtain ⟨x7, hx7, hf⟩ := obb hf
      refine c_geta (ci := 2) (k := 1) hx7 zcl_2 (Nat.le_of_ble_eq_true rfl) zf_X2_15 fk_81 dX2_set_53 ?_
      refine j_iload dX2_set_56 6 rfl ?_
      refine j_iload dX2_set_58 0 rfl ?_
      refine j_if_ge (w32 x6) rfl 67 dX2_set_60 (by decide) (fun h14 => ?_) (fun h14 => ?_)
      · replace hf := itb h14 hf
        refine j_aload_n dX2_set_67 2 rfl ?_
        obtain ⟨x8, hx8, hf⟩ := obb hf
        refine c_getaN (ci := 6) (k := 10) hx8 zcl_6 (Nat.le_of_ble_eq_true rfl) zf_X2_62 fk_250 dX2_set_68 ?_
        refine j_iload dX2_set_71 6 rfl ?_
        obtain ⟨b9, hb9, hf⟩ := obb hf
        obtain ⟨eb9, tb9⟩ := ztg_s hb9
        obtain ⟨x10, hx10, hf⟩ := obb hf
        refine a_Fr (x := ix_1) [pI v5] [pI v5, pR x7] (tJ2_get (some b9) v5 u hx10) ⟨q1509, q813, q815, q131, q817⟩ iF_1 df_1 rfl ⟨(Nat.le_of_ble_eq_true rfl), (Nat.le_of_ble_eq_true rfl)⟩ zcl_5 rfl tb9 (by rw [← eb9]; rfl) (Nat.le_of_ble_eq_true rfl) dX2_set_73 ⟨Nat.le_refl 0, Nat.le_refl 0⟩ ?_
        obtain ⟨y11, hy11, hf⟩ := obb hf
        refine c_cast hy11 zok_Starts q1512 dX2_set_78 ?_
        refine j_iload dX2_set_81 0 rfl ?_
        obtain ⟨b12, hb12, hf⟩ := obb hf
        obtain ⟨eb12, tb12⟩ := ztg_s hb12
        obtain ⟨x13, hx13, hf⟩ := obb hf
        refine a_Vr [pI x6] [pI v5, pR x7] (t4_cell (some b12) x6 u hx13) ⟨q1513, q1387, q1388, q135, q1389⟩ dv4_cell rfl ⟨(Nat.le_of_ble_eq_true rfl), (Nat.le_of_ble_eq_true rfl)⟩ (c_recv zcl_4 tb12) (by rw [← eb12]; rfl) (Nat.le_of_ble_eq_true rfl) dX2_set_83 ⟨Nat.le_refl 0, Nat.le_refl 0⟩ ?_
        exact j_sub [1, 2, 3, 4, 5, 6, 0] _ rfl (t2_set_b86 (f2_set_l26 G v0 v1 v2 v3 n) ih hK0 v4 v5 x6 x7 v5 x13 u hf)
      · replace hf := ieb h14 hf
        refine j_iconst dX2_set_63 ?_
        refine j_goto 86 dX2_set_64 (by decide) ?_
        exact j_sub [1, 2, 3, 4, 5, 6, 0] _ rfl (t2_set_b86 (f2_set_l26 G v0 v1 v2 v3 n) ih hK0 v4 v5 x6 x7 v5 (-1) u hf)
theorem t2_set {G : CG} {A : Nat → Prop} {l : Launch} {r : Sg} (v0 : Option Nat) (v1 : Option Nat) (v2 : Option Nat) (v3 : Int) (u : Sg) (hf : f2_set G v0 v1 v2 v3 u = some r) : JM kC (bC G A) A l yX2_set D2_set [pR v0, pR v1, pR v2, pI v3] u none r 0 0 := by
  refine j_met (lv0 := [(0, pR v0), (1, pR v1), (2, pR v2), (3, pI v3)]) ⟨pl_X2, rfl, rfl, (Nat.le_of_ble_eq_true rfl), rfl⟩ ?_
  unfold f2_set at hf
  refine j_aload_n dX2_set_0 0 rfl ?_
  refine j_aload_n dX2_set_1 1 rfl ?_
  obtain ⟨u1, hu1, hf⟩ := ob hf
  refine c_puta (ci := 2) (k := 0) hu1 zcl_2 (Nat.le_of_ble_eq_true rfl) zf_X2_29 fk_80 rfl fits_O dX2_set_2 ?_
  refine j_aload_n dX2_set_5 0 rfl ?_
  refine j_iconst dX2_set_6 ?_
  obtain ⟨u2, hu2, hf⟩ := ob hf
  refine c_puti (ci := 2) (k := 2) hu2 zcl_2 (Nat.le_of_ble_eq_true rfl) zf_X2_33 fk_82 rfl fits_I dX2_set_7 ?_
  refine j_iconst dX2_set_10 ?_
  refine j_istore dX2_set_11 [(4, pI 1), (0, pR v0), (1, pR v1), (2, pR v2), (3, pI v3)] (Nat.le_of_ble_eq_true rfl) rfl ?_
  refine j_aload_n dX2_set_13 2 rfl ?_
  obtain ⟨x3, hx3, hf⟩ := ob hf
  refine c_getaN (ci := 6) (k := 0) hx3 zcl_6 (Nat.le_of_ble_eq_true rfl) zf_X2_37 fk_240 dX2_set_14 ?_
  obtain ⟨b4, hb4, hf⟩ := ob hf
  obtain ⟨eb4, tb4⟩ := ztg_s hb4
  obtain ⟨x5, hx5, hf⟩ := ob hf
  refine a_Fr (x := ix_0) [] [] (tJ2_size (some b4) u2 hx5) ⟨q1507, q559, q561, q131, q563⟩ iF_0 df_0 rfl ⟨(Nat.le_of_ble_eq_true rfl), (Nat.le_of_ble_eq_true rfl)⟩ zcl_5 rfl tb4 (by rw [← eb4]; rfl) (Nat.le_of_ble_eq_true rfl) dX2_set_17 ⟨Nat.le_refl 0, Nat.le_refl 0⟩ ?_
  refine j_iconst dX2_set_22 ?_
  refine j_isub dX2_set_23 ?_
  refine j_istore dX2_set_24 [(5, pI (x5 - 1)), (4, pI 1), (0, pR v0), (1, pR v1), (2, pR v2), (3, pI v3)] (Nat.le_of_ble_eq_true rfl) rfl ?_
  refine j_sub [2, 3, 4, 5, 1, 0] _ rfl (t2_set_l26 v0 v1 v2 v3 ?_ NN 1 (x5 - 1) u2 hf)
  · intro q6 hf
    replace hf := Option.some.inj hf
    subst hf
    exact j_return (bC_mv G A) ⟨Nat.le_refl 0, Nat.le_refl 0⟩ rfl dX2_set_146
theorem t0_look {G : CG} {A : Nat → Prop} {l : Launch} {r : Int × Sg} (v0 : Option Nat) (v1 : Int) (v2 : Int) (u : Sg) (hf : f0_look G v0 v1 v2 u = some r) : JM kC (bC G A) A l yX0_look D0_look [pR v0, pI v1, pI v2] u (some (pI r.1)) r.2 0 0 := by
  refine j_met (lv0 := [(0, pR v0), (1, pI v1), (2, pI v2)]) ⟨pl_X0, rfl, rfl, (Nat.le_of_ble_eq_true rfl), rfl⟩ ?_
  unfold f0_look at hf
  refine j_aload_n dX0_look_0 0 rfl ?_
  refine j_iload_n dX0_look_1 1 rfl ?_
  obtain ⟨b1, hb1, hf⟩ := ob hf
  obtain ⟨eb1, tb1⟩ := ztg_s hb1
  obtain ⟨x2, hx2, hf⟩ := ob hf
  refine a_Vr [pI v1] [] (t0_isEvent (some b1) v1 u hx2) ⟨q1470, q1472, qs40, q128, q1473⟩ dv0_isEvent rfl ⟨(Nat.le_of_ble_eq_true rfl), (Nat.le_of_ble_eq_true rfl)⟩ (c_recv zcl_0 tb1) (by rw [← eb1]; rfl) (Nat.le_of_ble_eq_true rfl) dX0_look_2 ⟨Nat.le_refl 0, Nat.le_refl 0⟩ ?_
  refine j_if_ne (w32 x2) rfl 10 dX0_look_5 (by decide) (fun h13 => ?_) (fun h13 => ?_)
  · replace hf := ie h13 hf
    refine j_iload_n dX0_look_10 2 rfl ?_
    obtain ⟨x3, hx3, hf⟩ := ob hf
    refine a_Sr [pI v2] [] (t0_isDay v2 u hx3) ⟨q1478, q1479, q128, q1480⟩ dv0_isDay rfl ⟨(Nat.le_of_ble_eq_true rfl), (Nat.le_of_ble_eq_true rfl)⟩ rfl (Nat.le_of_ble_eq_true rfl) dX0_look_11 ⟨Nat.le_refl 0, Nat.le_refl 0⟩ ?_
    refine j_if_ne (w32 x3) rfl 20 dX0_look_14 (by decide) (fun h12 => ?_) (fun h12 => ?_)
    · replace hf := ie h12 hf
      refine j_aload_n dX0_look_20 0 rfl ?_
      obtain ⟨x4, hx4, hf⟩ := ob hf
      refine c_geta (ci := 0) (k := 6) hx4 zcl_0 (Nat.le_of_ble_eq_true rfl) zf_X0_86 fk_6 dX0_look_21 ?_
      refine j_iload_n dX0_look_24 1 rfl ?_
      refine j_iconst dX0_look_25 ?_
      refine j_isub dX0_look_26 ?_
      obtain ⟨b5, hb5, hf⟩ := ob hf
      obtain ⟨eb5, tb5⟩ := ztg_s hb5
      obtain ⟨x6, hx6, hf⟩ := ob hf
      refine a_Fr (x := ix_1) [pI (v1 - 1)] [] (tJ2_get (some b5) (v1 - 1) u hx6) ⟨q1273, q813, q815, q131, q817⟩ iF_1 df_1 rfl ⟨(Nat.le_of_ble_eq_true rfl), (Nat.le_of_ble_eq_true rfl)⟩ zcl_5 rfl tb5 (by rw [← eb5]; rfl) (Nat.le_of_ble_eq_true rfl) dX0_look_27 ⟨Nat.le_refl 0, Nat.le_refl 0⟩ ?_
      obtain ⟨y7, hy7, hf⟩ := ob hf
      refine c_cast hy7 zok_Event q1423 dX0_look_32 ?_
      refine j_astore_n dX0_look_35 [(3, pR x6), (0, pR v0), (1, pI v1), (2, pI v2)] (Nat.le_of_ble_eq_true rfl) rfl ?_
      refine j_aload_n dX0_look_36 1 rfl ?_
      obtain ⟨x8, hx8, hf⟩ := ob hf
      refine c_geta (ci := 0) (k := 14) hx8 zcl_0 (Nat.le_of_ble_eq_true rfl) zf_X0_117 fk_14 dX0_look_37 ?_
      refine j_aload_n dX0_look_40 0 rfl ?_
      obtain ⟨x9, hx9, hf⟩ := ob hf
      refine c_getaN (ci := 18) (k := 0) hx9 zcl_18 (Nat.le_of_ble_eq_true rfl) zf_X0_337 fk_720 dX0_look_41 ?_
      refine j_aload_n dX0_look_44 0 rfl ?_
      refine j_iload_n dX0_look_45 3 rfl ?_
      obtain ⟨b10, hb10, hf⟩ := ob hf
      obtain ⟨eb10, tb10⟩ := ztg_s hb10
      obtain ⟨u11, hu11, hf⟩ := ob hf
      refine a_Vv [pR x9, pR x6, pI v2] [] (t2_set (some b10) x9 x6 v2 u hu11) ⟨q1502, q1503, q1504, q133, q1505⟩ dv2_set rfl ⟨(Nat.le_of_ble_eq_true rfl), (Nat.le_of_ble_eq_true rfl)⟩ (c_recv zcl_2 tb10) (by rw [← eb10]; rfl) (Nat.le_of_ble_eq_true rfl) dX0_look_46 ⟨Nat.le_refl 0, Nat.le_refl 0⟩ ?_
      refine j_iconst dX0_look_49 ?_
      replace hf := Option.some.inj hf
      subst hf
      exact j_ireturn (bC_mv G A) ⟨Nat.le_refl 0, Nat.le_refl 0⟩ rfl dX0_look_50
    · replace hf := it h12 hf
      refine j_bipush dX0_look_17 (by decide) ?_
      replace hf := Option.some.inj hf
      subst hf
      exact j_ireturn (bC_mv G A) ⟨Nat.le_refl 0, Nat.le_refl 0⟩ rfl dX0_look_19
  · replace hf := it h13 hf
    refine j_iconst dX0_look_8 ?_
    replace hf := Option.some.inj hf
    subst hf
    exact j_ireturn (bC_mv G A) ⟨Nat.le_refl 0, Nat.le_refl 0⟩ rfl dX0_look_9
theorem t2_answer {G : CG} {A : Nat → Prop} {l : Launch} {r : Int} (v0 : Option Nat) (u : Sg) (hf : f2_answer G v0 u = some r) : JM kC (bC G A) A l yX2_answer D2_answer [pR v0] u (some (pI r)) u 0 0 := by
  refine j_met (lv0 := [(0, pR v0)]) ⟨pl_X2, rfl, rfl, (Nat.le_of_ble_eq_true rfl), rfl⟩ ?_
  unfold f2_answer at hf
  refine j_aload_n dX2_answer_0 0 rfl ?_
  obtain ⟨x1, hx1, hf⟩ := ob hf
  refine c_geta (ci := 2) (k := 4) hx1 zcl_2 (Nat.le_of_ble_eq_true rfl) zf_X2_22 fk_84 dX2_answer_1 ?_
  refine j_iconst dX2_answer_4 ?_
  obtain ⟨x2, hx2, hf⟩ := ob hf
  refine c_iald hx2 dX2_answer_5 ?_
  refine j_if_ne (w32 x2) rfl 13 dX2_answer_6 (by decide) (fun h6 => ?_) (fun h6 => ?_)
  · replace hf := ie h6 hf
    refine j_aload_n dX2_answer_13 0 rfl ?_
    obtain ⟨x3, hx3, hf⟩ := ob hf
    refine c_geta (ci := 2) (k := 4) hx3 zcl_2 (Nat.le_of_ble_eq_true rfl) zf_X2_22 fk_84 dX2_answer_14 ?_
    refine j_iconst dX2_answer_17 ?_
    obtain ⟨x4, hx4, hf⟩ := ob hf
    refine c_iald hx4 dX2_answer_18 ?_
    refine j_if_ne (w32 x4) rfl 26 dX2_answer_19 (by decide) (fun h5 => ?_) (fun h5 => ?_)
    · replace hf := ie h5 hf
      refine j_iconst dX2_answer_26 ?_
      replace hf := Option.some.inj hf
      subst hf
      exact j_ireturn (bC_mv G A) ⟨Nat.le_refl 0, Nat.le_refl 0⟩ rfl dX2_answer_27
    · replace hf := it h5 hf
      refine j_iconst dX2_answer_22 ?_
      refine j_goto 27 dX2_answer_23 (by decide) ?_
      replace hf := Option.some.inj hf
      subst hf
      exact j_ireturn (bC_mv G A) ⟨Nat.le_refl 0, Nat.le_refl 0⟩ rfl dX2_answer_27
  · replace hf := it h6 hf
    refine j_iconst dX2_answer_9 ?_
    refine j_goto 27 dX2_answer_10 (by decide) ?_
    replace hf := Option.some.inj hf
    subst hf
    exact j_ireturn (bC_mv G A) ⟨Nat.le_refl 0, Nat.le_refl 0⟩ rfl dX2_answer_27
theorem t2_isOne_l2 {G : CG} {A : Nat → Prop} {l : Launch} {a : List PV} {r : Int} {Kf : (Unit) ⊕ (Unit) → Option (Int)} (v0 : Option Nat) (v1 : Int) (v2 : Int) (u : Sg) (hK0 : ∀ q : Unit, Kf (.inl q) = some r → JW kC (bC G A) A l D2_isOne a (jQ (bC G A) A a (some (pI r)) u 0 0) 0 0 u 0 0 64 [] []) (hK1 : ∀ q : Unit, Kf (.inr q) = some r → JW kC (bC G A) A l D2_isOne a (jQ (bC G A) A a (some (pI r)) u 0 0) 0 0 u 0 0 72 [] []) : ∀ (n : Nat) (v3 : Int), ((f2_isOne_l2 G v0 v1 v2 u n v3).bind Kf = some r) → JW kC (bC G A) A l D2_isOne a (jQ (bC G A) A a (some (pI r)) u 0 0) 0 0 u 0 0 2 [(0, pR v0), (1, pI v1), (2, pI v2), (3, pI v3)] [] := by
  intro n
  induction n with
  | zero => intro v3 hf; exact onb hf
  | succ n ih =>
    intro v3 hf
    unfold f2_isOne_l2 at hf
    refine j_iload_n dX2_isOne_2 3 rfl ?_
    refine j_aload_n dX2_isOne_3 0 rfl ?_
    obtain ⟨x1, hx1, hf⟩ := obb hf
    refine c_geta (ci := 2) (k := 0) hx1 zcl_2 (Nat.le_of_ble_eq_true rfl) zf_X2_29 fk_80 dX2_isOne_4 ?_
    obtain ⟨x2, hx2, hf⟩ := obb hf
    refine c_getaN (ci := 6) (k := 0) hx2 zcl_6 (Nat.le_of_ble_eq_true rfl) zf_X2_37 fk_240 dX2_isOne_7 ?_
    obtain ⟨b3, hb3, hf⟩ := obb hf
    obtain ⟨eb3, tb3⟩ := ztg_s hb3
    obtain ⟨x4, hx4, hf⟩ := obb hf
    refine a_Fr (x := ix_0) [] [pI v3] (tJ2_size (some b3) u hx4) ⟨q1507, q559, q561, q131, q563⟩ iF_0 df_0 rfl ⟨(Nat.le_of_ble_eq_true rfl), (Nat.le_of_ble_eq_true rfl)⟩ zcl_5 rfl tb3 (by rw [← eb3]; rfl) (Nat.le_of_ble_eq_true rfl) dX2_isOne_10 ⟨Nat.le_refl 0, Nat.le_refl 0⟩ ?_
    refine j_icmp_ge (w32 v3) (w32 x4) rfl rfl 72 dX2_isOne_15 (by decide) (fun h19 => ?_) (fun h19 => ?_)
    · replace hf := itb h19 hf
      exact j_sub [] _ rfl (hK1 () hf)
    · replace hf := ieb h19 hf
      refine j_iload_n dX2_isOne_18 2 rfl ?_
      refine j_iload_n dX2_isOne_19 3 rfl ?_
      refine j_ishr dX2_isOne_20 ?_
      refine j_iconst dX2_isOne_21 ?_
      refine j_iand dX2_isOne_22 ?_
      refine j_iconst dX2_isOne_23 ?_
      refine j_icmp_ne (w32 (and32 (shr32 v2 v3) 1)) 1 rfl rfl 66 dX2_isOne_24 (by decide) (fun h18 => ?_) (fun h18 => ?_)
      · replace hf := ieb h18 hf
        refine j_iinc dX2_isOne_66 3 rfl [(3, pI (v3 + 1)), (0, pR v0), (1, pI v1), (2, pI v2)] (Nat.le_of_ble_eq_true rfl) rfl ?_
        refine j_goto 2 dX2_isOne_69 (by decide) ?_
        exact j_sub [1, 2, 3, 0] _ rfl (ih (v3 + 1) hf)
      · replace hf := itb h18 hf
        refine j_iload_n dX2_isOne_27 1 rfl ?_
        refine j_aload_n dX2_isOne_28 0 rfl ?_
        obtain ⟨x5, hx5, hf⟩ := obb hf
        refine c_geta (ci := 2) (k := 3) hx5 zcl_2 (Nat.le_of_ble_eq_true rfl) zf_X2_19 fk_83 dX2_isOne_29 ?_
        refine j_iload_n dX2_isOne_32 3 rfl ?_
        obtain ⟨x6, hx6, hf⟩ := obb hf
        refine c_iald hx6 dX2_isOne_33 ?_
        rcases Decidable.em (w32 x6 = 0) with h7 | h7
        · exact onb (itb h7 hf)
        · replace hf := ieb h7 hf
          refine j_idiv dX2_isOne_34 h7 ?_
          refine j_aload_n dX2_isOne_35 0 rfl ?_
          obtain ⟨x8, hx8, hf⟩ := obb hf
          refine c_geta (ci := 2) (k := 0) hx8 zcl_2 (Nat.le_of_ble_eq_true rfl) zf_X2_29 fk_80 dX2_isOne_36 ?_
          obtain ⟨x9, hx9, hf⟩ := obb hf
          refine c_getaN (ci := 6) (k := 10) hx9 zcl_6 (Nat.le_of_ble_eq_true rfl) zf_X2_62 fk_250 dX2_isOne_39 ?_
          refine j_iload_n dX2_isOne_42 3 rfl ?_
          obtain ⟨b10, hb10, hf⟩ := obb hf
          obtain ⟨eb10, tb10⟩ := ztg_s hb10
          obtain ⟨x11, hx11, hf⟩ := obb hf
          refine a_Fr (x := ix_1) [pI v3] [pI (div32 v1 x6)] (tJ2_get (some b10) v3 u hx11) ⟨q1509, q813, q815, q131, q817⟩ iF_1 df_1 rfl ⟨(Nat.le_of_ble_eq_true rfl), (Nat.le_of_ble_eq_true rfl)⟩ zcl_5 rfl tb10 (by rw [← eb10]; rfl) (Nat.le_of_ble_eq_true rfl) dX2_isOne_43 ⟨Nat.le_refl 0, Nat.le_refl 0⟩ ?_
          obtain ⟨y12, hy12, hf⟩ := obb hf
          refine c_cast hy12 zok_Starts q1512 dX2_isOne_48 ?_
          obtain ⟨x13, hx13, hf⟩ := obb hf
          refine c_getiN (ci := 4) (k := 1) hx13 zcl_4 (Nat.le_of_ble_eq_true rfl) zf_X2_71 fk_161 dX2_isOne_51 ?_
          rcases Decidable.em (w32 x13 = 0) with h14 | h14
          · exact onb (itb h14 hf)
          · replace hf := ieb h14 hf
            refine j_irem dX2_isOne_54 h14 ?_
            refine j_aload_n dX2_isOne_55 0 rfl ?_
            obtain ⟨x15, hx15, hf⟩ := obb hf
            refine c_geta (ci := 2) (k := 1) hx15 zcl_2 (Nat.le_of_ble_eq_true rfl) zf_X2_15 fk_81 dX2_isOne_56 ?_
            refine j_iload_n dX2_isOne_59 3 rfl ?_
            obtain ⟨x16, hx16, hf⟩ := obb hf
            refine c_iald hx16 dX2_isOne_60 ?_
            refine j_icmp_eq (w32 (rem32 (div32 v1 x6) x13)) (w32 x16) rfl rfl 66 dX2_isOne_61 (by decide) (fun h17 => ?_) (fun h17 => ?_)
            · replace hf := itb h17 hf
              refine j_iinc dX2_isOne_66 3 rfl [(3, pI (v3 + 1)), (0, pR v0), (1, pI v1), (2, pI v2)] (Nat.le_of_ble_eq_true rfl) rfl ?_
              refine j_goto 2 dX2_isOne_69 (by decide) ?_
              exact j_sub [1, 2, 3, 0] _ rfl (ih (v3 + 1) hf)
            · replace hf := ieb h17 hf
              exact j_sub [] _ rfl (hK0 () hf)
theorem t2_isOne {G : CG} {A : Nat → Prop} {l : Launch} {r : Int} (v0 : Option Nat) (v1 : Int) (v2 : Int) (u : Sg) (hf : f2_isOne G v0 v1 v2 u = some r) : JM kC (bC G A) A l yX2_isOne D2_isOne [pR v0, pI v1, pI v2] u (some (pI r)) u 0 0 := by
  refine j_met (lv0 := [(0, pR v0), (1, pI v1), (2, pI v2)]) ⟨pl_X2, rfl, rfl, (Nat.le_of_ble_eq_true rfl), rfl⟩ ?_
  unfold f2_isOne at hf
  refine j_iconst dX2_isOne_0 ?_
  refine j_istore_n dX2_isOne_1 [(3, pI 0), (0, pR v0), (1, pI v1), (2, pI v2)] (Nat.le_of_ble_eq_true rfl) rfl ?_
  refine j_sub [1, 2, 3, 0] _ rfl (t2_isOne_l2 v0 v1 v2 u ?_ ?_ NN 0 hf)
  · intro q1 hf
    simp only [Sum.elim_inl, Sum.elim_inr] at hf
    refine j_iconst dX2_isOne_64 ?_
    replace hf := Option.some.inj hf
    subst hf
    exact j_zreturn (x := 0) (bC_mv G A) ⟨Nat.le_refl 0, Nat.le_refl 0⟩ (ty := .boolean) rfl (nar_z (Or.inl rfl)) dX2_isOne_65
  · intro q2 hf
    simp only [Sum.elim_inl, Sum.elim_inr] at hf
    refine j_iconst dX2_isOne_72 ?_
    replace hf := Option.some.inj hf
    subst hf
    exact j_zreturn (x := 1) (bC_mv G A) ⟨Nat.le_refl 0, Nat.le_refl 0⟩ (ty := .boolean) rfl (nar_z (Or.inr rfl)) dX2_isOne_73

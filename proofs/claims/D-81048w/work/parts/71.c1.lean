theorem tJ0_init {G : CG} {A : Nat → Prop} {l : Launch} {r : Sg} (v0 : Option Nat) (u : Sg) (hf : fJ0_init G v0 u = some r) : JM kC (bC G A) A l yJ0_init DJ0_init [pR v0] u none r 0 0 := by
  refine j_met (lv0 := [(0, pR v0)]) ⟨pl_J0, rfl, rfl, (Nat.le_of_ble_eq_true rfl), rfl⟩ ?_
  unfold fJ0_init at hf
  refine j_aload_n dJ0_init_0 0 rfl ?_
  obtain ⟨b1, eb1, hg⟩ := ob hf
  clear hf
  subst eb1
  have hf := hg
  clear hg
  refine c_objInit q219 q177 q178 (Nat.le_of_ble_eq_true rfl) (Nat.le_of_ble_eq_true rfl) (Nat.le_of_ble_eq_true rfl) dJ0_init_1 ?_
  replace hf := Option.some.inj hf
  subst hf
  exact j_return (bC_mv G A) ⟨Nat.le_refl 0, Nat.le_refl 0⟩ rfl dJ0_init_4
theorem tJ1_init {G : CG} {A : Nat → Prop} {l : Launch} {r : Sg} (v0 : Option Nat) (u : Sg) (hf : fJ1_init G v0 u = some r) : JM kC (bC G A) A l yJ1_init DJ1_init [pR v0] u none r 0 0 := by
  refine j_met (lv0 := [(0, pR v0)]) ⟨pl_J1, rfl, rfl, (Nat.le_of_ble_eq_true rfl), rfl⟩ ?_
  unfold fJ1_init at hf
  refine j_aload_n dJ1_init_0 0 rfl ?_
  obtain ⟨b1, eb1, hg⟩ := ob hf
  clear hf
  subst eb1
  have hf := hg
  clear hg
  obtain ⟨u2, hu2, hf⟩ := ob hf
  refine c_callI [] [] _ (tJ0_init (some b1) u hu2) ⟨q216, q217, q129, q218, rfl, rfl⟩ dvJ0_init rfl ⟨(Nat.le_of_ble_eq_true rfl), (Nat.le_of_ble_eq_true rfl)⟩ rfl (Nat.le_of_ble_eq_true rfl) dJ1_init_1 ⟨Nat.le_refl 0, Nat.le_refl 0⟩ ?_
  refine j_aload_n dJ1_init_4 0 rfl ?_
  refine j_iconst dJ1_init_5 ?_
  obtain ⟨u3, hu3, hf⟩ := ob hf
  refine c_puti (ci := 5) (k := 0) hu3 zcl_5 (Nat.le_of_ble_eq_true rfl) zf_J1_7 fk_200 rfl fits_I dJ1_init_6 ?_
  replace hf := Option.some.inj hf
  subst hf
  exact j_return (bC_mv G A) ⟨Nat.le_refl 0, Nat.le_refl 0⟩ rfl dJ1_init_9
theorem tJ8_checkIndex_b9 {G : CG} {A : Nat → Prop} {l : Launch} {a : List PV} {r : Int} (v0 : Int) (v1 : Int) (v2 : Option Nat) (u : Sg) (hf : fJ8_checkIndex_b9 v0 v1 v2 = some r) : JW kC (bC G A) A l DJ8_checkIndex a (jQ (bC G A) A a (some (pI r)) u 0 0) 0 0 u 0 0 9 [(0, pI v0), (1, pI v1), (2, pR v2)] [] := by
  unfold fJ8_checkIndex_b9 at hf
  refine j_aload_n dJ8_checkIndex_9 2 rfl ?_
  refine j_iload_n dJ8_checkIndex_10 0 rfl ?_
  refine j_iload_n dJ8_checkIndex_11 1 rfl ?_
  exact onn hf
theorem tJ8_checkIndex {G : CG} {A : Nat → Prop} {l : Launch} {r : Int} (v0 : Int) (v1 : Int) (v2 : Option Nat) (u : Sg) (hf : fJ8_checkIndex v0 v1 v2 = some r) : JM kC (bC G A) A l yJ8_checkIndex DJ8_checkIndex [pI v0, pI v1, pR v2] u (some (pI r)) u 0 0 := by
  refine j_met (lv0 := [(0, pI v0), (1, pI v1), (2, pR v2)]) ⟨pl_J8, rfl, rfl, (Nat.le_of_ble_eq_true rfl), rfl⟩ ?_
  unfold fJ8_checkIndex at hf
  refine j_iload_n dJ8_checkIndex_0 0 rfl ?_
  refine j_if_lt (w32 v0) rfl 9 dJ8_checkIndex_1 (by decide) (fun h2 => ?_) (fun h2 => ?_)
  · replace hf := it h2 hf
    exact j_sub [0, 1, 2] _ rfl (tJ8_checkIndex_b9 v0 v1 v2 u hf)
  · replace hf := ie h2 hf
    refine j_iload_n dJ8_checkIndex_4 0 rfl ?_
    refine j_iload_n dJ8_checkIndex_5 1 rfl ?_
    refine j_icmp_lt (w32 v0) (w32 v1) rfl rfl 16 dJ8_checkIndex_6 (by decide) (fun h1 => ?_) (fun h1 => ?_)
    · replace hf := it h1 hf
      refine j_iload_n dJ8_checkIndex_16 0 rfl ?_
      replace hf := Option.some.inj hf
      subst hf
      exact j_ireturn (bC_mv G A) ⟨Nat.le_refl 0, Nat.le_refl 0⟩ rfl dJ8_checkIndex_17
    · replace hf := ie h1 hf
      exact j_sub [0, 1, 2] _ rfl (tJ8_checkIndex_b9 v0 v1 v2 u hf)
theorem tJ13_checkIndex {G : CG} {A : Nat → Prop} {l : Launch} {r : Int} (v0 : Int) (v1 : Int) (u : Sg) (hf : fJ13_checkIndex v0 v1 = some r) : JM kC (bC G A) A l yJ13_checkIndex DJ13_checkIndex [pI v0, pI v1] u (some (pI r)) u 0 0 := by
  refine j_met (lv0 := [(0, pI v0), (1, pI v1)]) ⟨pl_J13, rfl, rfl, (Nat.le_of_ble_eq_true rfl), rfl⟩ ?_
  unfold fJ13_checkIndex at hf
  refine j_iload_n dJ13_checkIndex_0 0 rfl ?_
  refine j_iload_n dJ13_checkIndex_1 1 rfl ?_
  refine j_null dJ13_checkIndex_2 ?_
  obtain ⟨x1, hx1, hf⟩ := ob hf
  refine a_Sr [pI v0, pI v1, pR none] [] (tJ8_checkIndex v0 v1 none u hx1) ⟨q821, q822, q143, q823⟩ dvJ8_checkIndex rfl ⟨(Nat.le_of_ble_eq_true rfl), (Nat.le_of_ble_eq_true rfl)⟩ rfl (Nat.le_of_ble_eq_true rfl) dJ13_checkIndex_3 ⟨Nat.le_refl 0, Nat.le_refl 0⟩ ?_
  replace hf := Option.some.inj hf
  subst hf
  exact j_ireturn (bC_mv G A) ⟨Nat.le_refl 0, Nat.le_refl 0⟩ rfl dJ13_checkIndex_6
theorem tJ14_init {G : CG} {A : Nat → Prop} {l : Launch} {r : Sg} (v0 : Option Nat) (u : Sg) (hf : fJ14_init G v0 u = some r) : JM kC (bC G A) A l yJ14_init DJ14_init [pR v0] u none r 0 0 := by
  refine j_met (lv0 := [(0, pR v0)]) ⟨pl_J14, rfl, rfl, (Nat.le_of_ble_eq_true rfl), rfl⟩ ?_
  unfold fJ14_init at hf
  refine j_aload_n dJ14_init_0 0 rfl ?_
  obtain ⟨b1, eb1, hg⟩ := ob hf
  clear hf
  subst eb1
  have hf := hg
  clear hg
  refine c_objInit q1041 q177 q178 (Nat.le_of_ble_eq_true rfl) (Nat.le_of_ble_eq_true rfl) (Nat.le_of_ble_eq_true rfl) dJ14_init_1 ?_
  replace hf := Option.some.inj hf
  subst hf
  exact j_return (bC_mv G A) ⟨Nat.le_refl 0, Nat.le_refl 0⟩ rfl dJ14_init_4
theorem tJ15_longValue {G : CG} {A : Nat → Prop} {l : Launch} {r : Int} (v0 : Option Nat) (u : Sg) (hf : fJ15_longValue G v0 u = some r) : JM kC (bC G A) A l yJ15_longValue DJ15_longValue [pR v0] u (some (pL r)) u 0 0 := by
  refine j_met (lv0 := [(0, pR v0)]) ⟨pl_J15, rfl, rfl, (Nat.le_of_ble_eq_true rfl), rfl⟩ ?_
  unfold fJ15_longValue at hf
  refine j_aload_n dJ15_longValue_0 0 rfl ?_
  obtain ⟨x1, hx1, hf⟩ := ob hf
  refine c_getl (ci := 28) (k := 0) hx1 zcl_28 (Nat.le_of_ble_eq_true rfl) zf_J15_273 fk_1120 dJ15_longValue_1 ?_
  replace hf := Option.some.inj hf
  subst hf
  exact j_lreturn (bC_mv G A) ⟨Nat.le_refl 0, Nat.le_refl 0⟩ rfl dJ15_longValue_4
theorem tJ15_init {G : CG} {A : Nat → Prop} {l : Launch} {r : Sg} (v0 : Option Nat) (v1 : Int) (u : Sg) (hf : fJ15_init G v0 v1 u = some r) : JM kC (bC G A) A l yJ15_init DJ15_init [pR v0, pL v1] u none r 0 0 := by
  refine j_met (lv0 := [(0, pR v0), (1, pL v1)]) ⟨pl_J15, rfl, rfl, (Nat.le_of_ble_eq_true rfl), rfl⟩ ?_
  unfold fJ15_init at hf
  refine j_aload_n dJ15_init_0 0 rfl ?_
  obtain ⟨b1, eb1, hg⟩ := ob hf
  clear hf
  subst eb1
  have hf := hg
  clear hg
  obtain ⟨u2, hu2, hf⟩ := ob hf
  refine c_callI [] [] _ (tJ14_init (some b1) u hu2) ⟨q1038, q1039, q161, q1040, rfl, rfl⟩ dvJ14_init rfl ⟨(Nat.le_of_ble_eq_true rfl), (Nat.le_of_ble_eq_true rfl)⟩ rfl (Nat.le_of_ble_eq_true rfl) dJ15_init_1 ⟨Nat.le_refl 0, Nat.le_refl 0⟩ ?_
  refine j_aload_n dJ15_init_4 0 rfl ?_
  refine j_lload_n dJ15_init_5 1 rfl ?_
  obtain ⟨u3, hu3, hf⟩ := ob hf
  refine c_putlF (ci := 28) (k := 0) hu3 zcl_28 (Nat.le_of_ble_eq_true rfl) zf_J15_273 fk_1120 rfl rfl rfl fits_L dJ15_init_6 ?_
  replace hf := Option.some.inj hf
  subst hf
  exact j_return (bC_mv G A) ⟨Nat.le_refl 0, Nat.le_refl 0⟩ rfl dJ15_init_9
theorem tJ15_valueOf_b31 {G : CG} {A : Nat → Prop} {l : Launch} {a : List PV} {mc ms ce sl : Nat} {r : Option Nat × Sg} {c0 n0 : Nat} (v0 : Int) (u : Sg) (hcs : ce + c0 ≤ mc ∧ sl + n0 ≤ ms) (hf : fJ15_valueOf_b31 G v0 u = some (r, c0, n0)) : JW kC (bC G A) A l DJ15_valueOf a (jQ (bC G A) A a (some (pR r.1)) r.2 mc ms) mc ms u ce sl 31 [(0, pL v0)] [] := by
  unfold fJ15_valueOf_b31 at hf
  obtain ⟨q1, kq1, mq1, k_q1, m_q1, hq1, hf, hkq1, hmq1⟩ := bdU_s hf
  obtain ⟨hczq1, hcs⟩ := hcs_step hcs hkq1 hmq1
  refine c_new (ci := 28) hq1 zcl_28 zmk_28 q1033 dJ15_valueOf_31 hczq1 ?_
  refine j_dup dJ15_valueOf_34 rfl ?_
  refine j_lload_n dJ15_valueOf_35 0 rfl ?_
  obtain ⟨u2, hu2, hf⟩ := ob hf
  refine c_callI [pL v0] [pR (some q1.1)] _ (tJ15_init (some q1.1) v0 q1.2 hu2) ⟨q1035, q1036, q162, q1037, rfl, rfl⟩ dvJ15_init rfl ⟨(Nat.le_of_ble_eq_true rfl), (Nat.le_of_ble_eq_true rfl)⟩ rfl (Nat.le_of_ble_eq_true rfl) dJ15_valueOf_36 (hcs_ret (x := ()) (r := ()) hcs) ?_
  replace hf := retU hf
  subst hf
  exact j_areturn (bC_mv G A) (hcs_ret (x := ()) (r := ()) hcs) rfl (Or.inl ⟨_, rfl⟩) dJ15_valueOf_39
theorem tJ15_valueOf {G : CG} {A : Nat → Prop} {l : Launch} {r : Option Nat × Sg} {c0 n0 : Nat} (v0 : Int) (u : Sg) (hf : fJ15_valueOf G v0 u = some (r, c0, n0)) : JM kC (bC G A) A l yJ15_valueOf DJ15_valueOf [pL v0] u (some (pR r.1)) r.2 c0 n0 := by
  refine j_met (lv0 := [(0, pL v0)]) ⟨pl_J15, rfl, rfl, (Nat.le_of_ble_eq_true rfl), rfl⟩ ?_
  have hcs : 0 + c0 ≤ c0 ∧ 0 + n0 ≤ n0 := ⟨by omega, by omega⟩
  unfold fJ15_valueOf at hf
  refine j_sipush dJ15_valueOf_0 (by decide) ?_
  refine j_istore_n dJ15_valueOf_3 [(2, pI 128), (0, pL v0)] (Nat.le_of_ble_eq_true rfl) rfl ?_
  refine j_lload_n dJ15_valueOf_4 1 rfl ?_
  refine j_ldc2 (z := (-128)) q1029 (by decide) dJ15_valueOf_5 ?_
  refine j_lc_lt 31 dJ15_valueOf_8 dJ15_valueOf_9 (by decide) (fun h3 => ?_) (fun h3 => ?_)
  · replace hf := it h3 hf
    exact j_sub [1] _ rfl (tJ15_valueOf_b31 v0 u hcs hf)
  · replace hf := ie h3 hf
    refine j_lload_n dJ15_valueOf_12 1 rfl ?_
    refine j_ldc2 (z := 127) q1030 (by decide) dJ15_valueOf_13 ?_
    refine j_lc_gt 31 dJ15_valueOf_16 dJ15_valueOf_17 (by decide) (fun h2 => ?_) (fun h2 => ?_)
    · replace hf := it h2 hf
      exact j_sub [1] _ rfl (tJ15_valueOf_b31 v0 u hcs hf)
    · replace hf := ie h2 hf
      refine c_gets 8 rfl q1031 dJ15_valueOf_20 ?_
      refine j_lload_n dJ15_valueOf_23 1 rfl ?_
      refine j_l2i dJ15_valueOf_24 ?_
      refine j_sipush dJ15_valueOf_25 (by decide) ?_
      refine j_iadd dJ15_valueOf_28 ?_
      obtain ⟨x1, hx1, hf⟩ := ob hf
      refine c_aald6 hx1 dJ15_valueOf_29 ?_
      replace hf := retU hf
      subst hf
      exact j_areturn (bC_mv G A) (hcs_ret (x := ()) (r := ()) hcs) rfl (Or.inl ⟨_, rfl⟩) dJ15_valueOf_30
theorem tJ16_bitCount {G : CG} {A : Nat → Prop} {l : Launch} {r : Int} (v0 : Int) (u : Sg) (hf : fJ16_bitCount v0 = some r) : JM kC (bC G A) A l yJ16_bitCount DJ16_bitCount [pI v0] u (some (pI r)) u 0 0 := by
  refine j_met (lv0 := [(0, pI v0)]) ⟨pl_J16, rfl, rfl, (Nat.le_of_ble_eq_true rfl), rfl⟩ ?_
  unfold fJ16_bitCount at hf
  refine j_iload_n dJ16_bitCount_0 0 rfl ?_
  refine j_iload_n dJ16_bitCount_1 0 rfl ?_
  refine j_iconst dJ16_bitCount_2 ?_
  refine j_iushr dJ16_bitCount_3 ?_
  refine j_ldcw (z := 1431655765) q1545 (by decide) dJ16_bitCount_4 ?_
  refine j_iand dJ16_bitCount_7 ?_
  refine j_isub dJ16_bitCount_8 ?_
  refine j_istore_n dJ16_bitCount_9 [(0, pI (v0 - (and32 (ushr32 v0 1) 1431655765)))] (Nat.le_of_ble_eq_true rfl) rfl ?_
  refine j_iload_n dJ16_bitCount_10 0 rfl ?_
  refine j_ldcw (z := 858993459) q1546 (by decide) dJ16_bitCount_11 ?_
  refine j_iand dJ16_bitCount_14 ?_
  refine j_iload_n dJ16_bitCount_15 0 rfl ?_
  refine j_iconst dJ16_bitCount_16 ?_
  refine j_iushr dJ16_bitCount_17 ?_
  refine j_ldcw (z := 858993459) q1546 (by decide) dJ16_bitCount_18 ?_
  refine j_iand dJ16_bitCount_21 ?_
  refine j_iadd dJ16_bitCount_22 ?_
  obtain ⟨x1, hx1, hf⟩ := ob hf
  refine j_nameI hx1 ?_
  refine j_istore_n dJ16_bitCount_23 [(0, pI x1)] (Nat.le_of_ble_eq_true rfl) rfl ?_
  refine j_iload_n dJ16_bitCount_24 0 rfl ?_
  refine j_iload_n dJ16_bitCount_25 0 rfl ?_
  refine j_iconst dJ16_bitCount_26 ?_
  refine j_iushr dJ16_bitCount_27 ?_
  refine j_iadd dJ16_bitCount_28 ?_
  refine j_ldcw (z := 252645135) q1547 (by decide) dJ16_bitCount_29 ?_
  refine j_iand dJ16_bitCount_32 ?_
  refine j_istore_n dJ16_bitCount_33 [(0, pI (and32 (x1 + (ushr32 x1 4)) 252645135))] (Nat.le_of_ble_eq_true rfl) rfl ?_
  refine j_iload_n dJ16_bitCount_34 0 rfl ?_
  refine j_iload_n dJ16_bitCount_35 0 rfl ?_
  refine j_bipush dJ16_bitCount_36 (by decide) ?_
  refine j_iushr dJ16_bitCount_38 ?_
  refine j_iadd dJ16_bitCount_39 ?_
  obtain ⟨x2, hx2, hf⟩ := ob hf
  refine j_nameI hx2 ?_
  refine j_istore_n dJ16_bitCount_40 [(0, pI x2)] (Nat.le_of_ble_eq_true rfl) rfl ?_
  refine j_iload_n dJ16_bitCount_41 0 rfl ?_
  refine j_iload_n dJ16_bitCount_42 0 rfl ?_
  refine j_bipush dJ16_bitCount_43 (by decide) ?_
  refine j_iushr dJ16_bitCount_45 ?_
  refine j_iadd dJ16_bitCount_46 ?_
  refine j_istore_n dJ16_bitCount_47 [(0, pI (x2 + (ushr32 x2 16)))] (Nat.le_of_ble_eq_true rfl) rfl ?_
  refine j_iload_n dJ16_bitCount_48 0 rfl ?_
  refine j_bipush dJ16_bitCount_49 (by decide) ?_
  refine j_iand dJ16_bitCount_51 ?_
  replace hf := Option.some.inj hf
  subst hf
  exact j_ireturn (bC_mv G A) ⟨Nat.le_refl 0, Nat.le_refl 0⟩ rfl dJ16_bitCount_52
theorem tJ16_lowestOneBit {G : CG} {A : Nat → Prop} {l : Launch} {r : Int} (v0 : Int) (u : Sg) (hf : fJ16_lowestOneBit v0 = some r) : JM kC (bC G A) A l yJ16_lowestOneBit DJ16_lowestOneBit [pI v0] u (some (pI r)) u 0 0 := by
  refine j_met (lv0 := [(0, pI v0)]) ⟨pl_J16, rfl, rfl, (Nat.le_of_ble_eq_true rfl), rfl⟩ ?_
  unfold fJ16_lowestOneBit at hf
  refine j_iload_n dJ16_lowestOneBit_0 0 rfl ?_
  refine j_iload_n dJ16_lowestOneBit_1 0 rfl ?_
  refine j_ineg dJ16_lowestOneBit_2 ?_
  refine j_iand dJ16_lowestOneBit_3 ?_
  replace hf := Option.some.inj hf
  subst hf
  exact j_ireturn (bC_mv G A) ⟨Nat.le_refl 0, Nat.le_refl 0⟩ rfl dJ16_lowestOneBit_4
theorem tJ2_init {G : CG} {A : Nat → Prop} {l : Launch} {r : Sg} (v0 : Option Nat) (u : Sg) (hf : fJ2_init G v0 u = some r) : JM kC (bC G A) A l yJ2_init DJ2_init [pR v0] u none r 0 0 := by
  refine j_met (lv0 := [(0, pR v0)]) ⟨pl_J2, rfl, rfl, (Nat.le_of_ble_eq_true rfl), rfl⟩ ?_
  unfold fJ2_init at hf
  refine j_aload_n dJ2_init_0 0 rfl ?_
  obtain ⟨b1, eb1, hg⟩ := ob hf
  clear hf
  subst eb1
  have hf := hg
  clear hg
  obtain ⟨u2, hu2, hf⟩ := ob hf
  refine c_callI [] [] _ (tJ1_init (some b1) u hu2) ⟨q213, q214, q130, q215, rfl, rfl⟩ dvJ1_init rfl ⟨(Nat.le_of_ble_eq_true rfl), (Nat.le_of_ble_eq_true rfl)⟩ rfl (Nat.le_of_ble_eq_true rfl) dJ2_init_1 ⟨Nat.le_refl 0, Nat.le_refl 0⟩ ?_
  refine j_aload_n dJ2_init_4 0 rfl ?_
  refine c_gets 6 rfl q220 dJ2_init_5 ?_
  obtain ⟨u3, hu3, hf⟩ := ob hf
  refine c_puta (ci := 5) (k := 1) hu3 zcl_5 (Nat.le_of_ble_eq_true rfl) zf_J2_9 fk_201 rfl fits_A dJ2_init_8 ?_
  replace hf := Option.some.inj hf
  subst hf
  exact j_return (bC_mv G A) ⟨Nat.le_refl 0, Nat.le_refl 0⟩ rfl dJ2_init_11
theorem tJ5_copyOf_2_b24 {G : CG} {A : Nat → Prop} {l : Launch} {a : List PV} {mc ms ce sl : Nat} {r : Option Nat × Sg} {c0 n0 : Nat} (v0 : Option Nat) (v1 : Int) (s0 : Option Nat) (u : Sg) (hcs : ce + c0 ≤ mc ∧ sl + n0 ≤ ms) (hf : fJ5_copyOf_2_b24 G v0 v1 s0 u = some (r, c0, n0)) : JW kC (bC G A) A l DJ5_copyOf_2 a (jQ (bC G A) A a (some (pR r.1)) r.2 mc ms) mc ms u ce sl 24 [(0, pR v0), (1, pI v1)] [pR s0] := by
  unfold fJ5_copyOf_2_b24 at hf
  refine j_astore_n dJ5_copyOf_2_24 [(3, pR s0), (0, pR v0), (1, pI v1)] (Nat.le_of_ble_eq_true rfl) rfl ?_
  refine j_aload_n dJ5_copyOf_2_25 1 rfl ?_
  refine j_iconst dJ5_copyOf_2_26 ?_
  refine j_aload_n dJ5_copyOf_2_27 0 rfl ?_
  refine j_iconst dJ5_copyOf_2_28 ?_
  refine j_aload_n dJ5_copyOf_2_29 1 rfl ?_
  obtain ⟨x1, hx1, hf⟩ := ob hf
  refine c_alen 5 (by decide) (by decide) hx1 dJ5_copyOf_2_30 ?_
  refine j_iload_n dJ5_copyOf_2_31 2 rfl ?_
  refine j_mmin q394 q395 q137 q396 (Nat.le_of_ble_eq_true rfl) (Nat.le_of_ble_eq_true rfl) (Nat.le_of_ble_eq_true rfl) (hcs_ret (x := ()) (r := ()) hcs) dJ5_copyOf_2_32 ?_
  obtain ⟨u2, hu2, hf⟩ := ob hf
  refine c_acpy hu2 zok_Object q397 q399 q398 q139 (Nat.le_of_ble_eq_true rfl) (Nat.le_of_ble_eq_true rfl) (Nat.le_of_ble_eq_true rfl) dJ5_copyOf_2_35 ?_
  refine j_aload_n dJ5_copyOf_2_38 0 rfl ?_
  replace hf := retU hf
  subst hf
  exact j_areturn (bC_mv G A) (hcs_ret (x := ()) (r := ()) hcs) rfl (Or.inr ⟨_, rfl⟩) dJ5_copyOf_2_39
theorem tJ5_copyOf_2 {G : CG} {A : Nat → Prop} {l : Launch} {r : Option Nat × Sg} {c0 n0 : Nat} (v0 : Option Nat) (v1 : Int) (v2 : Option Nat) (u : Sg) (hf : fJ5_copyOf_2 G v0 v1 v2 u = some (r, c0, n0)) : JM kC (bC G A) A l yJ5_copyOf_2 DJ5_copyOf_2 [pR v0, pI v1, pR v2] u (some (pR r.1)) r.2 c0 n0 := by
  refine j_met (lv0 := [(0, pR v0), (1, pI v1), (2, pR v2)]) ⟨pl_J5, rfl, rfl, (Nat.le_of_ble_eq_true rfl), rfl⟩ ?_
  have hcs : 0 + c0 ≤ c0 ∧ 0 + n0 ≤ n0 := ⟨by omega, by omega⟩
  unfold fJ5_copyOf_2 at hf
  refine j_aload_n dJ5_copyOf_2_0 2 rfl ?_
  refine c_ldcM9 q391 dJ5_copyOf_2_1 ?_
  refine j_acmp_ne 13 dJ5_copyOf_2_3 (by decide) (fun h2 => ?_) (fun h2 => ?_)
  · replace hf := ie h2 hf
    refine j_aload_n dJ5_copyOf_2_13 2 rfl ?_
    exact onn hf
  · replace hf := it h2 hf
    refine j_iload_n dJ5_copyOf_2_6 1 rfl ?_
    obtain ⟨q1, kq1, mq1, k_q1, m_q1, hq1, hf, hkq1, hmq1⟩ := bdU_s hf
    obtain ⟨hczq1, hcs⟩ := hcs_step hcs hkq1 hmq1
    refine c_anew hq1 q393 dJ5_copyOf_2_7 hczq1 ?_
    refine j_goto 24 dJ5_copyOf_2_10 (by decide) ?_
    exact j_sub [0, 1] _ rfl (tJ5_copyOf_2_b24 v0 v1 (some q1.1) q1.2 hcs hf)
theorem tJ5_copyOf {G : CG} {A : Nat → Prop} {l : Launch} {r : Option Nat × Sg} {c0 n0 : Nat} (v0 : Option Nat) (v1 : Int) (u : Sg) (hf : fJ5_copyOf G v0 v1 u = some (r, c0, n0)) : JM kC (bC G A) A l yJ5_copyOf DJ5_copyOf [pR v0, pI v1] u (some (pR r.1)) r.2 c0 n0 := by
  refine j_met (lv0 := [(0, pR v0), (1, pI v1)]) ⟨pl_J5, rfl, rfl, (Nat.le_of_ble_eq_true rfl), rfl⟩ ?_
  have hcs : 0 + c0 ≤ c0 ∧ 0 + n0 ≤ n0 := ⟨by omega, by omega⟩
  unfold fJ5_copyOf at hf
  refine j_aload_n dJ5_copyOf_0 0 rfl ?_
  refine j_iload_n dJ5_copyOf_1 1 rfl ?_
  refine j_aload_n dJ5_copyOf_2 0 rfl ?_
  obtain ⟨b1, hb1, hf⟩ := ob hf
  obtain ⟨eb1, tb1⟩ := ztg_s hb1
  refine c_getC5 eb1 tb1 q355 q1309 q2721 q356 q387 (Nat.le_of_ble_eq_true rfl) (Nat.le_of_ble_eq_true rfl) (Nat.le_of_ble_eq_true rfl) dJ5_copyOf_3 ?_
  obtain ⟨q2, kq2, mq2, k_q2, m_q2, hq2, hf, hkq2, hmq2⟩ := bdU_s hf
  obtain ⟨hczq2, hcs⟩ := hcs_step hcs hkq2 hmq2
  refine a_Sr [pR v0, pI v1, pR (G.2.2.2.2 21)] [] (tJ5_copyOf_2 v0 v1 (G.2.2.2.2 21) u hq2) ⟨q388, q389, q138, q390⟩ dvJ5_copyOf_2 rfl ⟨(Nat.le_of_ble_eq_true rfl), (Nat.le_of_ble_eq_true rfl)⟩ rfl (Nat.le_of_ble_eq_true rfl) dJ5_copyOf_6 hczq2 ?_
  replace hf := retU hf
  subst hf
  exact j_areturn (bC_mv G A) (hcs_ret (x := ()) (r := ()) hcs) rfl (Or.inr ⟨_, rfl⟩) dJ5_copyOf_9
theorem tJ3_newLength_b21 {G : CG} {A : Nat → Prop} {l : Launch} {a : List PV} {mc ms ce sl : Nat} {r : Int × Sg} {c0 n0 : Nat} (v0 : Int) (v1 : Int) (u : Sg) (hcs : ce + c0 ≤ mc ∧ sl + n0 ≤ ms) (hf : fJ3_newLength_b21 G v0 v1 u = some (r, c0, n0)) : JW kC (bC G A) A l DJ3_newLength a (jQ (bC G A) A a (some (pI r.1)) r.2 mc ms) mc ms u ce sl 21 [(0, pI v0), (1, pI v1)] [] := by
  unfold fJ3_newLength_b21 at hf
  refine j_iload_n dJ3_newLength_21 0 rfl ?_
  refine j_iload_n dJ3_newLength_22 1 rfl ?_
  exact onn hf
theorem tJ3_newLength {G : CG} {A : Nat → Prop} {l : Launch} {r : Int × Sg} {c0 n0 : Nat} (v0 : Int) (v1 : Int) (v2 : Int) (u : Sg) (hf : fJ3_newLength G v0 v1 v2 u = some (r, c0, n0)) : JM kC (bC G A) A l yJ3_newLength DJ3_newLength [pI v0, pI v1, pI v2] u (some (pI r.1)) r.2 c0 n0 := by
  refine j_met (lv0 := [(0, pI v0), (1, pI v1), (2, pI v2)]) ⟨pl_J3, rfl, rfl, (Nat.le_of_ble_eq_true rfl), rfl⟩ ?_
  have hcs : 0 + c0 ≤ c0 ∧ 0 + n0 ≤ n0 := ⟨by omega, by omega⟩
  unfold fJ3_newLength at hf
  refine j_iload_n dJ3_newLength_0 0 rfl ?_
  refine j_iload_n dJ3_newLength_1 1 rfl ?_
  refine j_iload_n dJ3_newLength_2 2 rfl ?_
  refine j_mmax q345 q346 q137 q347 (Nat.le_of_ble_eq_true rfl) (Nat.le_of_ble_eq_true rfl) (Nat.le_of_ble_eq_true rfl) (hcs_ret (x := ()) (r := ()) hcs) dJ3_newLength_3 ?_
  refine j_iadd dJ3_newLength_6 ?_
  refine j_istore_n dJ3_newLength_7 [(3, pI (v0 + (mx32 v1 v2))), (0, pI v0), (1, pI v1), (2, pI v2)] (Nat.le_of_ble_eq_true rfl) rfl ?_
  refine j_iconst dJ3_newLength_8 ?_
  refine j_iload_n dJ3_newLength_9 0 rfl ?_
  refine j_icmp_ge 0 (w32 (v0 + (mx32 v1 v2))) rfl rfl 21 dJ3_newLength_10 (by decide) (fun h2 => ?_) (fun h2 => ?_)
  · replace hf := it h2 hf
    exact j_sub [1, 2] _ rfl (tJ3_newLength_b21 v0 v1 u hcs hf)
  · replace hf := ie h2 hf
    refine j_iload_n dJ3_newLength_13 0 rfl ?_
    refine j_ldc (z := 2147483639) q348 (by decide) dJ3_newLength_14 ?_
    refine j_icmp_gt (w32 (v0 + (mx32 v1 v2))) 2147483639 rfl rfl 21 dJ3_newLength_16 (by decide) (fun h1 => ?_) (fun h1 => ?_)
    · replace hf := it h1 hf
      exact j_sub [1, 2] _ rfl (tJ3_newLength_b21 v0 v1 u hcs hf)
    · replace hf := ie h1 hf
      refine j_iload_n dJ3_newLength_19 0 rfl ?_
      replace hf := retU hf
      subst hf
      exact j_ireturn (bC_mv G A) (hcs_ret (x := ()) (r := ()) hcs) rfl dJ3_newLength_20
theorem tJ2_grow_2_b20 {G : CG} {A : Nat → Prop} {l : Launch} {a : List PV} {mc ms ce sl : Nat} {r : Option Nat × Sg} {c0 n0 : Nat} (v0 : Option Nat) (v1 : Int) (v2 : Int) (u : Sg) (hcs : ce + c0 ≤ mc ∧ sl + n0 ≤ ms) (hf : fJ2_grow_2_b20 G v0 v1 v2 u = some (r, c0, n0)) : JW kC (bC G A) A l DJ2_grow_2 a (jQ (bC G A) A a (some (pR r.1)) r.2 mc ms) mc ms u ce sl 20 [(0, pR v0), (1, pI v1), (2, pI v2)] [] := by
  unfold fJ2_grow_2_b20 at hf
  refine j_iload_n dJ2_grow_2_20 2 rfl ?_
  refine j_iload_n dJ2_grow_2_21 1 rfl ?_
  refine j_iload_n dJ2_grow_2_22 2 rfl ?_
  refine j_isub dJ2_grow_2_23 ?_
  refine j_iload_n dJ2_grow_2_24 2 rfl ?_
  refine j_iconst dJ2_grow_2_25 ?_
  refine j_ishr dJ2_grow_2_26 ?_
  obtain ⟨q1, kq1, mq1, k_q1, m_q1, hq1, hf, hkq1, hmq1⟩ := bdU_s hf
  obtain ⟨hczq1, hcs⟩ := hcs_step hcs hkq1 hmq1
  refine a_Sr [pI v2, pI (v1 - v2), pI (shr32 v2 1)] [] (tJ3_newLength v2 (v1 - v2) (shr32 v2 1) u hq1) ⟨q342, q343, q136, q344⟩ dvJ3_newLength rfl ⟨(Nat.le_of_ble_eq_true rfl), (Nat.le_of_ble_eq_true rfl)⟩ rfl (Nat.le_of_ble_eq_true rfl) dJ2_grow_2_27 hczq1 ?_
  refine j_istore_n dJ2_grow_2_30 [(3, pI q1.1), (0, pR v0), (1, pI v1), (2, pI v2)] (Nat.le_of_ble_eq_true rfl) rfl ?_
  refine j_aload_n dJ2_grow_2_31 1 rfl ?_
  refine j_aload_n dJ2_grow_2_32 1 rfl ?_
  obtain ⟨x2, hx2, hf⟩ := ob hf
  refine c_geta (ci := 5) (k := 1) hx2 zcl_5 (Nat.le_of_ble_eq_true rfl) zf_J2_9 fk_201 dJ2_grow_2_33 ?_
  refine j_iload_n dJ2_grow_2_36 0 rfl ?_
  obtain ⟨q3, kq3, mq3, k_q3, m_q3, hq3, hf, hkq3, hmq3⟩ := bdU_s hf
  obtain ⟨hczq3, hcs⟩ := hcs_step hcs hkq3 hmq3
  refine a_Sr [pR x2, pI q1.1] [pR v0] (tJ5_copyOf x2 q1.1 q1.2 hq3) ⟨q352, q353, q138, q354⟩ dvJ5_copyOf rfl ⟨(Nat.le_of_ble_eq_true rfl), (Nat.le_of_ble_eq_true rfl)⟩ rfl (Nat.le_of_ble_eq_true rfl) dJ2_grow_2_37 hczq3 ?_
  refine j_dup_x1 dJ2_grow_2_40 rfl rfl ?_
  obtain ⟨u4, hu4, hf⟩ := ob hf
  refine c_puta (ci := 5) (k := 1) hu4 zcl_5 (Nat.le_of_ble_eq_true rfl) zf_J2_9 fk_201 rfl fits_A dJ2_grow_2_41 ?_
  replace hf := retU hf
  subst hf
  exact j_areturn (bC_mv G A) (hcs_ret (x := ()) (r := ()) hcs) rfl (Or.inr ⟨_, rfl⟩) dJ2_grow_2_44
theorem tJ2_grow_2 {G : CG} {A : Nat → Prop} {l : Launch} {r : Option Nat × Sg} {c0 n0 : Nat} (v0 : Option Nat) (v1 : Int) (u : Sg) (hf : fJ2_grow_2 G v0 v1 u = some (r, c0, n0)) : JM kC (bC G A) A l yJ2_grow_2 DJ2_grow_2 [pR v0, pI v1] u (some (pR r.1)) r.2 c0 n0 := by
  refine j_met (lv0 := [(0, pR v0), (1, pI v1)]) ⟨pl_J2, rfl, rfl, (Nat.le_of_ble_eq_true rfl), rfl⟩ ?_
  have hcs : 0 + c0 ≤ c0 ∧ 0 + n0 ≤ n0 := ⟨by omega, by omega⟩
  unfold fJ2_grow_2 at hf
  refine j_aload_n dJ2_grow_2_0 0 rfl ?_
  obtain ⟨x1, hx1, hf⟩ := ob hf
  refine c_geta (ci := 5) (k := 1) hx1 zcl_5 (Nat.le_of_ble_eq_true rfl) zf_J2_9 fk_201 dJ2_grow_2_1 ?_
  obtain ⟨x2, hx2, hf⟩ := ob hf
  refine c_alen 5 (by decide) (by decide) hx2 dJ2_grow_2_4 ?_
  refine j_istore_n dJ2_grow_2_5 [(2, pI x2), (0, pR v0), (1, pI v1)] (Nat.le_of_ble_eq_true rfl) rfl ?_
  refine j_iload_n dJ2_grow_2_6 0 rfl ?_
  refine j_if_gt (w32 x2) rfl 20 dJ2_grow_2_7 (by decide) (fun h7 => ?_) (fun h7 => ?_)
  · replace hf := it h7 hf
    exact j_sub [1, 2, 0] _ rfl (tJ2_grow_2_b20 v0 v1 x2 u hcs hf)
  · replace hf := ie h7 hf
    refine j_aload_n dJ2_grow_2_10 1 rfl ?_
    obtain ⟨x3, hx3, hf⟩ := ob hf
    refine c_geta (ci := 5) (k := 1) hx3 zcl_5 (Nat.le_of_ble_eq_true rfl) zf_J2_9 fk_201 dJ2_grow_2_11 ?_
    refine c_gets 6 rfl q220 dJ2_grow_2_14 ?_
    refine j_acmp_eq 45 dJ2_grow_2_17 (by decide) (fun h6 => ?_) (fun h6 => ?_)
    · replace hf := it h6 hf
      refine j_aload_n dJ2_grow_2_45 1 rfl ?_
      refine j_bipush dJ2_grow_2_46 (by decide) ?_
      refine j_iload_n dJ2_grow_2_48 2 rfl ?_
      refine j_mmax q400 q346 q137 q347 (Nat.le_of_ble_eq_true rfl) (Nat.le_of_ble_eq_true rfl) (Nat.le_of_ble_eq_true rfl) (hcs_ret (x := ()) (r := ()) hcs) dJ2_grow_2_49 ?_
      obtain ⟨q4, kq4, mq4, k_q4, m_q4, hq4, hf, hkq4, hmq4⟩ := bdU_s hf
      obtain ⟨hczq4, hcs⟩ := hcs_step hcs hkq4 hmq4
      refine c_anew hq4 q401 dJ2_grow_2_52 hczq4 ?_
      refine j_dup_x1 dJ2_grow_2_55 rfl rfl ?_
      obtain ⟨u5, hu5, hf⟩ := ob hf
      refine c_puta (ci := 5) (k := 1) hu5 zcl_5 (Nat.le_of_ble_eq_true rfl) zf_J2_9 fk_201 rfl fits_A dJ2_grow_2_56 ?_
      replace hf := retU hf
      subst hf
      exact j_areturn (bC_mv G A) (hcs_ret (x := ()) (r := ()) hcs) rfl (Or.inr ⟨_, rfl⟩) dJ2_grow_2_59
    · replace hf := ie h6 hf
      exact j_sub [1, 2, 0] _ rfl (tJ2_grow_2_b20 v0 v1 x2 u hcs hf)
theorem tJ2_grow {G : CG} {A : Nat → Prop} {l : Launch} {r : Option Nat × Sg} {c0 n0 : Nat} (v0 : Option Nat) (u : Sg) (hf : fJ2_grow G v0 u = some (r, c0, n0)) : JM kC (bC G A) A l yJ2_grow DJ2_grow [pR v0] u (some (pR r.1)) r.2 c0 n0 := by
  refine j_met (lv0 := [(0, pR v0)]) ⟨pl_J2, rfl, rfl, (Nat.le_of_ble_eq_true rfl), rfl⟩ ?_
  have hcs : 0 + c0 ≤ c0 ∧ 0 + n0 ≤ n0 := ⟨by omega, by omega⟩
  unfold fJ2_grow at hf
  refine j_aload_n dJ2_grow_0 0 rfl ?_
  refine j_aload_n dJ2_grow_1 0 rfl ?_
  obtain ⟨x1, hx1, hf⟩ := ob hf
  refine c_geti (ci := 5) (k := 2) hx1 zcl_5 (Nat.le_of_ble_eq_true rfl) zf_J2_48 fk_202 dJ2_grow_2 ?_
  refine j_iconst dJ2_grow_5 ?_
  refine j_iadd dJ2_grow_6 ?_
  obtain ⟨b2, hb2, hf⟩ := ob hf
  obtain ⟨eb2, tb2⟩ := ztg_s hb2
  obtain ⟨q3, kq3, mq3, k_q3, m_q3, hq3, hf, hkq3, hmq3⟩ := bdU_s hf
  obtain ⟨hczq3, hcs⟩ := hcs_step hcs hkq3 hmq3
  refine a_Vr [pI (x1 + 1)] [] (tJ2_grow_2 (some b2) (x1 + 1) u hq3) ⟨q338, q340, qs2, q131, q341⟩ dvJ2_grow_2 rfl ⟨(Nat.le_of_ble_eq_true rfl), (Nat.le_of_ble_eq_true rfl)⟩ (c_recv zcl_5 tb2) (by rw [← eb2]; rfl) (Nat.le_of_ble_eq_true rfl) dJ2_grow_7 hczq3 ?_
  replace hf := retU hf
  subst hf
  exact j_areturn (bC_mv G A) (hcs_ret (x := ()) (r := ()) hcs) rfl (Or.inr ⟨_, rfl⟩) dJ2_grow_10
theorem tJ2_add_2_b11 {G : CG} {A : Nat → Prop} {l : Launch} {a : List PV} {mc ms ce sl : Nat} {r : Sg} {c0 n0 : Nat} (v0 : Option Nat) (v1 : Option Nat) (v2 : Option Nat) (v3 : Int) (u : Sg) (hcs : ce + c0 ≤ mc ∧ sl + n0 ≤ ms) (hf : fJ2_add_2_b11 G v0 v1 v2 v3 u = some (r, c0, n0)) : JW kC (bC G A) A l DJ2_add_2 a (jQ (bC G A) A a none r mc ms) mc ms u ce sl 11 [(0, pR v0), (1, pR v1), (2, pR v2), (3, pI v3)] [] := by
  unfold fJ2_add_2_b11 at hf
  refine j_aload_n dJ2_add_2_11 2 rfl ?_
  refine j_iload_n dJ2_add_2_12 3 rfl ?_
  refine j_aload_n dJ2_add_2_13 1 rfl ?_
  obtain ⟨u1, hu1, hf⟩ := ob hf
  refine c_aast hu1 zok_Object dJ2_add_2_14 ?_
  refine j_aload_n dJ2_add_2_15 0 rfl ?_
  refine j_iload_n dJ2_add_2_16 3 rfl ?_
  refine j_iconst dJ2_add_2_17 ?_
  refine j_iadd dJ2_add_2_18 ?_
  obtain ⟨u2, hu2, hf⟩ := ob hf
  refine c_puti (ci := 5) (k := 2) hu2 zcl_5 (Nat.le_of_ble_eq_true rfl) zf_J2_48 fk_202 rfl fits_I dJ2_add_2_19 ?_
  replace hf := retU hf
  subst hf
  exact j_return (bC_mv G A) (hcs_ret (x := ()) (r := ()) hcs) rfl dJ2_add_2_22
theorem tJ2_add_2 {G : CG} {A : Nat → Prop} {l : Launch} {r : Sg} {c0 n0 : Nat} (v0 : Option Nat) (v1 : Option Nat) (v2 : Option Nat) (v3 : Int) (u : Sg) (hf : fJ2_add_2 G v0 v1 v2 v3 u = some (r, c0, n0)) : JM kC (bC G A) A l yJ2_add_2 DJ2_add_2 [pR v0, pR v1, pR v2, pI v3] u none r c0 n0 := by
  refine j_met (lv0 := [(0, pR v0), (1, pR v1), (2, pR v2), (3, pI v3)]) ⟨pl_J2, rfl, rfl, (Nat.le_of_ble_eq_true rfl), rfl⟩ ?_
  have hcs : 0 + c0 ≤ c0 ∧ 0 + n0 ≤ n0 := ⟨by omega, by omega⟩
  unfold fJ2_add_2 at hf
  refine j_iload_n dJ2_add_2_0 3 rfl ?_
  refine j_aload_n dJ2_add_2_1 2 rfl ?_
  obtain ⟨x1, hx1, hf⟩ := ob hf
  refine c_alen 5 (by decide) (by decide) hx1 dJ2_add_2_2 ?_
  refine j_icmp_ne (w32 v3) (w32 x1) rfl rfl 11 dJ2_add_2_3 (by decide) (fun h4 => ?_) (fun h4 => ?_)
  · replace hf := ie h4 hf
    exact j_sub [0, 1, 2, 3] _ rfl (tJ2_add_2_b11 v0 v1 v2 v3 u hcs hf)
  · replace hf := it h4 hf
    refine j_aload_n dJ2_add_2_6 0 rfl ?_
    obtain ⟨b2, hb2, hf⟩ := ob hf
    obtain ⟨eb2, tb2⟩ := ztg_s hb2
    obtain ⟨q3, kq3, mq3, k_q3, m_q3, hq3, hf, hkq3, hmq3⟩ := bdU_s hf
    obtain ⟨hczq3, hcs⟩ := hcs_step hcs hkq3 hmq3
    refine a_Vr [] [] (tJ2_grow (some b2) u hq3) ⟨q334, q336, qs1, q131, q337⟩ dvJ2_grow rfl ⟨(Nat.le_of_ble_eq_true rfl), (Nat.le_of_ble_eq_true rfl)⟩ (c_recv zcl_5 tb2) (by rw [← eb2]; rfl) (Nat.le_of_ble_eq_true rfl) dJ2_add_2_7 hczq3 ?_
    refine j_astore_n dJ2_add_2_10 [(2, pR q3.1), (0, pR v0), (1, pR v1), (3, pI v3)] (Nat.le_of_ble_eq_true rfl) rfl ?_
    exact j_sub [1, 2, 0, 3] _ rfl (tJ2_add_2_b11 v0 v1 q3.1 v3 q3.2 hcs hf)
theorem tJ2_add {G : CG} {A : Nat → Prop} {l : Launch} {r : Int × Sg} {c0 n0 : Nat} (v0 : Option Nat) (v1 : Option Nat) (u : Sg) (hf : fJ2_add G v0 v1 u = some (r, c0, n0)) : JM kC (bC G A) A l yJ2_add DJ2_add [pR v0, pR v1] u (some (pI r.1)) r.2 c0 n0 := by
  refine j_met (lv0 := [(0, pR v0), (1, pR v1)]) ⟨pl_J2, rfl, rfl, (Nat.le_of_ble_eq_true rfl), rfl⟩ ?_
  have hcs : 0 + c0 ≤ c0 ∧ 0 + n0 ≤ n0 := ⟨by omega, by omega⟩
  unfold fJ2_add at hf
  refine j_aload_n dJ2_add_0 0 rfl ?_
  refine j_dup dJ2_add_1 rfl ?_
  obtain ⟨x1, hx1, hf⟩ := ob hf
  refine c_geti (ci := 5) (k := 0) hx1 zcl_5 (Nat.le_of_ble_eq_true rfl) zf_J2_63 fk_200 dJ2_add_2 ?_
  refine j_iconst dJ2_add_5 ?_
  refine j_iadd dJ2_add_6 ?_
  obtain ⟨u2, hu2, hf⟩ := ob hf
  refine c_puti (ci := 5) (k := 0) hu2 zcl_5 (Nat.le_of_ble_eq_true rfl) zf_J2_63 fk_200 rfl fits_I dJ2_add_7 ?_
  refine j_aload_n dJ2_add_10 0 rfl ?_
  refine j_aload_n dJ2_add_11 1 rfl ?_
  refine j_aload_n dJ2_add_12 0 rfl ?_
  obtain ⟨x3, hx3, hf⟩ := ob hf
  refine c_geta (ci := 5) (k := 1) hx3 zcl_5 (Nat.le_of_ble_eq_true rfl) zf_J2_9 fk_201 dJ2_add_13 ?_
  refine j_aload_n dJ2_add_16 0 rfl ?_
  obtain ⟨x4, hx4, hf⟩ := ob hf
  refine c_geti (ci := 5) (k := 2) hx4 zcl_5 (Nat.le_of_ble_eq_true rfl) zf_J2_48 fk_202 dJ2_add_17 ?_
  obtain ⟨b5, hb5, hf⟩ := ob hf
  obtain ⟨eb5, tb5⟩ := ztg_s hb5
  obtain ⟨q6, kq6, mq6, k_q6, m_q6, hq6, hf, hkq6, hmq6⟩ := bdU_s hf
  obtain ⟨hczq6, hcs⟩ := hcs_step hcs hkq6 hmq6
  refine a_Vv [pR v1, pR x3, pI x4] [] (tJ2_add_2 (some b5) v1 x3 x4 u2 hq6) ⟨q330, q332, qs0, q131, q333⟩ dvJ2_add_2 rfl ⟨(Nat.le_of_ble_eq_true rfl), (Nat.le_of_ble_eq_true rfl)⟩ (c_recv zcl_5 tb5) (by rw [← eb5]; rfl) (Nat.le_of_ble_eq_true rfl) dJ2_add_20 hczq6 ?_
  refine j_iconst dJ2_add_23 ?_
  replace hf := retU hf
  subst hf
  exact j_zreturn (x := 1) (bC_mv G A) (hcs_ret (x := ()) (r := ()) hcs) (ty := .boolean) rfl (nar_z (Or.inr rfl)) dJ2_add_24
theorem tJ2_size {G : CG} {A : Nat → Prop} {l : Launch} {r : Int} (v0 : Option Nat) (u : Sg) (hf : fJ2_size G v0 u = some r) : JM kC (bC G A) A l yJ2_size DJ2_size [pR v0] u (some (pI r)) u 0 0 := by
  refine j_met (lv0 := [(0, pR v0)]) ⟨pl_J2, rfl, rfl, (Nat.le_of_ble_eq_true rfl), rfl⟩ ?_
  unfold fJ2_size at hf
  refine j_aload_n dJ2_size_0 0 rfl ?_
  obtain ⟨x1, hx1, hf⟩ := ob hf
  refine c_geti (ci := 5) (k := 2) hx1 zcl_5 (Nat.le_of_ble_eq_true rfl) zf_J2_48 fk_202 dJ2_size_1 ?_
  replace hf := Option.some.inj hf
  subst hf
  exact j_ireturn (bC_mv G A) ⟨Nat.le_refl 0, Nat.le_refl 0⟩ rfl dJ2_size_4
theorem tJ2_elementData {G : CG} {A : Nat → Prop} {l : Launch} {r : Option Nat} (v0 : Option Nat) (v1 : Int) (u : Sg) (hf : fJ2_elementData G v0 v1 u = some r) : JM kC (bC G A) A l yJ2_elementData DJ2_elementData [pR v0, pI v1] u (some (pR r)) u 0 0 := by
  refine j_met (lv0 := [(0, pR v0), (1, pI v1)]) ⟨pl_J2, rfl, rfl, (Nat.le_of_ble_eq_true rfl), rfl⟩ ?_
  unfold fJ2_elementData at hf
  refine j_aload_n dJ2_elementData_0 0 rfl ?_
  obtain ⟨x1, hx1, hf⟩ := ob hf
  refine c_geta (ci := 5) (k := 1) hx1 zcl_5 (Nat.le_of_ble_eq_true rfl) zf_J2_9 fk_201 dJ2_elementData_1 ?_
  refine j_iload_n dJ2_elementData_4 1 rfl ?_
  obtain ⟨x2, hx2, hf⟩ := ob hf
  refine c_aald5 hx2 dJ2_elementData_5 ?_
  replace hf := Option.some.inj hf
  subst hf
  exact j_areturn (bC_mv G A) ⟨Nat.le_refl 0, Nat.le_refl 0⟩ rfl (Or.inl ⟨_, rfl⟩) dJ2_elementData_6
theorem tJ2_get {G : CG} {A : Nat → Prop} {l : Launch} {r : Option Nat} (v0 : Option Nat) (v1 : Int) (u : Sg) (hf : fJ2_get G v0 v1 u = some r) : JM kC (bC G A) A l yJ2_get DJ2_get [pR v0, pI v1] u (some (pR r)) u 0 0 := by
  refine j_met (lv0 := [(0, pR v0), (1, pI v1)]) ⟨pl_J2, rfl, rfl, (Nat.le_of_ble_eq_true rfl), rfl⟩ ?_
  unfold fJ2_get at hf
  refine j_iload_n dJ2_get_0 1 rfl ?_
  refine j_aload_n dJ2_get_1 0 rfl ?_
  obtain ⟨x1, hx1, hf⟩ := ob hf
  refine c_geti (ci := 5) (k := 2) hx1 zcl_5 (Nat.le_of_ble_eq_true rfl) zf_J2_48 fk_202 dJ2_get_2 ?_
  obtain ⟨x2, hx2, hf⟩ := ob hf
  refine a_Sr [pI v1, pI x1] [] (tJ13_checkIndex v1 x1 u hx2) ⟨q818, q819, q151, q820⟩ dvJ13_checkIndex rfl ⟨(Nat.le_of_ble_eq_true rfl), (Nat.le_of_ble_eq_true rfl)⟩ rfl (Nat.le_of_ble_eq_true rfl) dJ2_get_5 ⟨Nat.le_refl 0, Nat.le_refl 0⟩ ?_
  refine j_pop dJ2_get_8 rfl ?_
  refine j_aload_n dJ2_get_9 0 rfl ?_
  refine j_iload_n dJ2_get_10 1 rfl ?_
  obtain ⟨b3, hb3, hf⟩ := ob hf
  obtain ⟨eb3, tb3⟩ := ztg_s hb3
  obtain ⟨x4, hx4, hf⟩ := ob hf
  refine a_Vr [pI v1] [] (tJ2_elementData (some b3) v1 u hx4) ⟨q824, q825, q826, q131, q827⟩ dvJ2_elementData rfl ⟨(Nat.le_of_ble_eq_true rfl), (Nat.le_of_ble_eq_true rfl)⟩ (c_recv zcl_5 tb3) (by rw [← eb3]; rfl) (Nat.le_of_ble_eq_true rfl) dJ2_get_11 ⟨Nat.le_refl 0, Nat.le_refl 0⟩ ?_
  replace hf := Option.some.inj hf
  subst hf
  exact j_areturn (bC_mv G A) ⟨Nat.le_refl 0, Nat.le_refl 0⟩ rfl (Or.inl ⟨_, rfl⟩) dJ2_get_14
theorem tJ2_toArray {G : CG} {A : Nat → Prop} {l : Launch} {r : Option Nat × Sg} {c0 n0 : Nat} (v0 : Option Nat) (u : Sg) (hf : fJ2_toArray G v0 u = some (r, c0, n0)) : JM kC (bC G A) A l yJ2_toArray DJ2_toArray [pR v0] u (some (pR r.1)) r.2 c0 n0 := by
  refine j_met (lv0 := [(0, pR v0)]) ⟨pl_J2, rfl, rfl, (Nat.le_of_ble_eq_true rfl), rfl⟩ ?_
  have hcs : 0 + c0 ≤ c0 ∧ 0 + n0 ≤ n0 := ⟨by omega, by omega⟩
  unfold fJ2_toArray at hf
  refine j_aload_n dJ2_toArray_0 0 rfl ?_
  obtain ⟨x1, hx1, hf⟩ := ob hf
  refine c_geta (ci := 5) (k := 1) hx1 zcl_5 (Nat.le_of_ble_eq_true rfl) zf_J2_9 fk_201 dJ2_toArray_1 ?_
  refine j_aload_n dJ2_toArray_4 0 rfl ?_
  obtain ⟨x2, hx2, hf⟩ := ob hf
  refine c_geti (ci := 5) (k := 2) hx2 zcl_5 (Nat.le_of_ble_eq_true rfl) zf_J2_48 fk_202 dJ2_toArray_5 ?_
  obtain ⟨q3, kq3, mq3, k_q3, m_q3, hq3, hf, hkq3, hmq3⟩ := bdU_s hf
  obtain ⟨hczq3, hcs⟩ := hcs_step hcs hkq3 hmq3
  refine a_Sr [pR x1, pI x2] [] (tJ5_copyOf x1 x2 u hq3) ⟨q352, q353, q138, q354⟩ dvJ5_copyOf rfl ⟨(Nat.le_of_ble_eq_true rfl), (Nat.le_of_ble_eq_true rfl)⟩ rfl (Nat.le_of_ble_eq_true rfl) dJ2_toArray_8 hczq3 ?_
  replace hf := retU hf
  subst hf
  exact j_areturn (bC_mv G A) (hcs_ret (x := ()) (r := ()) hcs) rfl (Or.inr ⟨_, rfl⟩) dJ2_toArray_11
theorem tJ2_addAll_b56 {G : CG} {A : Nat → Prop} {l : Launch} {a : List PV} {mc ms ce sl : Nat} {r : Int × Sg} {c0 n0 : Nat} (v0 : Option Nat) (v2 : Option Nat) (v3 : Int) (v4 : Option Nat) (v5 : Int) (u : Sg) (hcs : ce + c0 ≤ mc ∧ sl + n0 ≤ ms) (hf : fJ2_addAll_b56 G v0 v2 v3 v4 v5 u = some (r, c0, n0)) : JW kC (bC G A) A l DJ2_addAll a (jQ (bC G A) A a (some (pI r.1)) r.2 mc ms) mc ms u ce sl 56 [(0, pR v0), (2, pR v2), (3, pI v3), (4, pR v4), (5, pI v5)] [] := by
  unfold fJ2_addAll_b56 at hf
  refine j_aload_n dJ2_addAll_56 1 rfl ?_
  refine j_iconst dJ2_addAll_57 ?_
  refine j_aload dJ2_addAll_58 3 rfl ?_
  refine j_iload dJ2_addAll_60 4 rfl ?_
  refine j_iload_n dJ2_addAll_62 2 rfl ?_
  obtain ⟨u1, hu1, hf⟩ := ob hf
  refine c_acpy hu1 zok_Object q1297 q399 q398 q139 (Nat.le_of_ble_eq_true rfl) (Nat.le_of_ble_eq_true rfl) (Nat.le_of_ble_eq_true rfl) dJ2_addAll_63 ?_
  refine j_aload_n dJ2_addAll_66 0 rfl ?_
  refine j_iload dJ2_addAll_67 4 rfl ?_
  refine j_iload_n dJ2_addAll_69 2 rfl ?_
  refine j_iadd dJ2_addAll_70 ?_
  obtain ⟨u2, hu2, hf⟩ := ob hf
  refine c_puti (ci := 5) (k := 2) hu2 zcl_5 (Nat.le_of_ble_eq_true rfl) zf_J2_48 fk_202 rfl fits_I dJ2_addAll_71 ?_
  refine j_iconst dJ2_addAll_74 ?_
  replace hf := retU hf
  subst hf
  exact j_zreturn (x := 1) (bC_mv G A) (hcs_ret (x := ()) (r := ()) hcs) (ty := .boolean) rfl (nar_z (Or.inr rfl)) dJ2_addAll_75
theorem tJ2_addAll {G : CG} {A : Nat → Prop} {l : Launch} {r : Int × Sg} {c0 n0 : Nat} (v0 : Option Nat) (v1 : Option Nat) (u : Sg) (hf : fJ2_addAll G v0 v1 u = some (r, c0, n0)) : JM kC (bC G A) A l yJ2_addAll DJ2_addAll [pR v0, pR v1] u (some (pI r.1)) r.2 c0 n0 := by
  refine j_met (lv0 := [(0, pR v0), (1, pR v1)]) ⟨pl_J2, rfl, rfl, (Nat.le_of_ble_eq_true rfl), rfl⟩ ?_
  have hcs : 0 + c0 ≤ c0 ∧ 0 + n0 ≤ n0 := ⟨by omega, by omega⟩
  unfold fJ2_addAll at hf
  refine j_aload_n dJ2_addAll_0 1 rfl ?_
  obtain ⟨b1, hb1, hf⟩ := ob hf
  obtain ⟨eb1, tb1⟩ := ztg_s hb1
  obtain ⟨q2, kq2, mq2, k_q2, m_q2, hq2, hf, hkq2, hmq2⟩ := bdU_s hf
  obtain ⟨hczq2, hcs⟩ := hcs_step hcs hkq2 hmq2
  refine a_Fr (x := ix_5) [] [] (tJ2_toArray (some b1) u hq2) ⟨q1288, q1292, q1294, q131, q1296⟩ iF_5 df_5 rfl ⟨(Nat.le_of_ble_eq_true rfl), (Nat.le_of_ble_eq_true rfl)⟩ zcl_5 rfl tb1 (by rw [← eb1]; rfl) (Nat.le_of_ble_eq_true rfl) dJ2_addAll_1 hczq2 ?_
  refine j_astore_n dJ2_addAll_6 [(2, pR q2.1), (0, pR v0), (1, pR v1)] (Nat.le_of_ble_eq_true rfl) rfl ?_
  refine j_aload_n dJ2_addAll_7 1 rfl ?_
  refine j_dup dJ2_addAll_8 rfl ?_
  obtain ⟨x3, hx3, hf⟩ := ob hf
  refine c_geti (ci := 5) (k := 0) hx3 zcl_5 (Nat.le_of_ble_eq_true rfl) zf_J2_63 fk_200 dJ2_addAll_9 ?_
  refine j_iconst dJ2_addAll_12 ?_
  refine j_iadd dJ2_addAll_13 ?_
  obtain ⟨u4, hu4, hf⟩ := ob hf
  refine c_puti (ci := 5) (k := 0) hu4 zcl_5 (Nat.le_of_ble_eq_true rfl) zf_J2_63 fk_200 rfl fits_I dJ2_addAll_14 ?_
  refine j_aload_n dJ2_addAll_17 0 rfl ?_
  obtain ⟨x5, hx5, hf⟩ := ob hf
  refine c_alen 5 (by decide) (by decide) hx5 dJ2_addAll_18 ?_
  refine j_istore_n dJ2_addAll_19 [(3, pI x5), (2, pR q2.1), (0, pR v0), (1, pR v1)] (Nat.le_of_ble_eq_true rfl) rfl ?_
  refine j_iload_n dJ2_addAll_20 0 rfl ?_
  refine j_if_ne (w32 x5) rfl 26 dJ2_addAll_21 (by decide) (fun h12 => ?_) (fun h12 => ?_)
  · replace hf := ie h12 hf
    refine j_iload_n dJ2_addAll_26 0 rfl ?_
    refine j_aload_n dJ2_addAll_27 2 rfl ?_
    obtain ⟨x6, hx6, hf⟩ := ob hf
    refine c_geta (ci := 5) (k := 1) hx6 zcl_5 (Nat.le_of_ble_eq_true rfl) zf_J2_9 fk_201 dJ2_addAll_28 ?_
    refine j_dup dJ2_addAll_31 rfl ?_
    refine j_astore dJ2_addAll_32 [(4, pR x6), (3, pI x5), (2, pR q2.1), (0, pR v0), (1, pR v1)] (Nat.le_of_ble_eq_true rfl) rfl ?_
    obtain ⟨x7, hx7, hf⟩ := ob hf
    refine c_alen 5 (by decide) (by decide) hx7 dJ2_addAll_34 ?_
    refine j_aload_n dJ2_addAll_35 3 rfl ?_
    obtain ⟨x8, hx8, hf⟩ := ob hf
    refine c_geti (ci := 5) (k := 2) hx8 zcl_5 (Nat.le_of_ble_eq_true rfl) zf_J2_48 fk_202 dJ2_addAll_36 ?_
    refine j_dup dJ2_addAll_39 rfl ?_
    refine j_istore dJ2_addAll_40 [(5, pI x8), (4, pR x6), (3, pI x5), (2, pR q2.1), (0, pR v0), (1, pR v1)] (Nat.le_of_ble_eq_true rfl) rfl ?_
    refine j_isub dJ2_addAll_42 ?_
    refine j_icmp_le (w32 x5) (w32 (x7 - x8)) rfl rfl 56 dJ2_addAll_43 (by decide) (fun h11 => ?_) (fun h11 => ?_)
    · replace hf := it h11 hf
      exact j_sub [4, 3, 2, 1, 0] _ rfl (tJ2_addAll_b56 v0 q2.1 x5 x6 x8 u4 hcs hf)
    · replace hf := ie h11 hf
      refine j_aload_n dJ2_addAll_46 4 rfl ?_
      refine j_iload dJ2_addAll_47 0 rfl ?_
      refine j_iload_n dJ2_addAll_49 2 rfl ?_
      refine j_iadd dJ2_addAll_50 ?_
      obtain ⟨b9, hb9, hf⟩ := ob hf
      obtain ⟨eb9, tb9⟩ := ztg_s hb9
      obtain ⟨q10, kq10, mq10, k_q10, m_q10, hq10, hf, hkq10, hmq10⟩ := bdU_s hf
      obtain ⟨hczq10, hcs⟩ := hcs_step hcs hkq10 hmq10
      refine a_Vr [pI (x8 + x5)] [] (tJ2_grow_2 (some b9) (x8 + x5) u4 hq10) ⟨q338, q340, qs2, q131, q341⟩ dvJ2_grow_2 rfl ⟨(Nat.le_of_ble_eq_true rfl), (Nat.le_of_ble_eq_true rfl)⟩ (c_recv zcl_5 tb9) (by rw [← eb9]; rfl) (Nat.le_of_ble_eq_true rfl) dJ2_addAll_51 hczq10 ?_
      refine j_astore dJ2_addAll_54 [(4, pR q10.1), (5, pI x8), (3, pI x5), (2, pR q2.1), (0, pR v0), (1, pR v1)] (Nat.le_of_ble_eq_true rfl) rfl ?_
      exact j_sub [4, 3, 2, 0, 1] _ rfl (tJ2_addAll_b56 v0 q2.1 x5 q10.1 x8 q10.2 hcs hf)
  · replace hf := it h12 hf
    refine j_iconst dJ2_addAll_24 ?_
    replace hf := retU hf
    subst hf
    exact j_zreturn (x := 0) (bC_mv G A) (hcs_ret (x := ()) (r := ()) hcs) (ty := .boolean) rfl (nar_z (Or.inl rfl)) dJ2_addAll_25
theorem tJ2_init_2 {G : CG} {A : Nat → Prop} {l : Launch} {r : Sg} {c0 n0 : Nat} (v0 : Option Nat) (v1 : Option Nat) (u : Sg) (hf : fJ2_init_2 G v0 v1 u = some (r, c0, n0)) : JM kC (bC G A) A l yJ2_init_2 DJ2_init_2 [pR v0, pR v1] u none r c0 n0 := by
  refine j_met (lv0 := [(0, pR v0), (1, pR v1)]) ⟨pl_J2, rfl, rfl, (Nat.le_of_ble_eq_true rfl), rfl⟩ ?_
  have hcs : 0 + c0 ≤ c0 ∧ 0 + n0 ≤ n0 := ⟨by omega, by omega⟩
  unfold fJ2_init_2 at hf
  refine j_aload_n dJ2_init_2_0 0 rfl ?_
  obtain ⟨b1, eb1, hg⟩ := ob hf
  clear hf
  subst eb1
  have hf := hg
  clear hg
  obtain ⟨u2, hu2, hf⟩ := ob hf
  refine c_callI [] [] _ (tJ1_init (some b1) u hu2) ⟨q213, q214, q130, q215, rfl, rfl⟩ dvJ1_init rfl ⟨(Nat.le_of_ble_eq_true rfl), (Nat.le_of_ble_eq_true rfl)⟩ rfl (Nat.le_of_ble_eq_true rfl) dJ2_init_2_1 (hcs_ret (x := ()) (r := ()) hcs) ?_
  refine j_aload_n dJ2_init_2_4 1 rfl ?_
  obtain ⟨b3, hb3, hf⟩ := ob hf
  obtain ⟨eb3, tb3⟩ := ztg_s hb3
  obtain ⟨q4, kq4, mq4, k_q4, m_q4, hq4, hf, hkq4, hmq4⟩ := bdU_s hf
  obtain ⟨hczq4, hcs⟩ := hcs_step hcs hkq4 hmq4
  refine a_Fr (x := ix_5) [] [] (tJ2_toArray (some b3) u2 hq4) ⟨q1288, q1292, q1294, q131, q1296⟩ iF_5 df_5 rfl ⟨(Nat.le_of_ble_eq_true rfl), (Nat.le_of_ble_eq_true rfl)⟩ zcl_5 rfl tb3 (by rw [← eb3]; rfl) (Nat.le_of_ble_eq_true rfl) dJ2_init_2_5 hczq4 ?_
  refine j_astore_n dJ2_init_2_10 [(2, pR q4.1), (0, pR (some b1)), (1, pR v1)] (Nat.le_of_ble_eq_true rfl) rfl ?_
  refine j_aload_n dJ2_init_2_11 1 rfl ?_
  refine j_aload_n dJ2_init_2_12 0 rfl ?_
  obtain ⟨x5, hx5, hf⟩ := ob hf
  refine c_alen 5 (by decide) (by decide) hx5 dJ2_init_2_13 ?_
  refine j_dup_x1 dJ2_init_2_14 rfl rfl ?_
  obtain ⟨u6, hu6, hf⟩ := ob hf
  refine c_puti (ci := 5) (k := 2) hu6 zcl_5 (Nat.le_of_ble_eq_true rfl) zf_J2_48 fk_202 rfl fits_I dJ2_init_2_15 ?_
  refine j_if_eq (w32 x5) rfl 57 dJ2_init_2_18 (by decide) (fun h14 => ?_) (fun h14 => ?_)
  · replace hf := it h14 hf
    refine j_aload_n dJ2_init_2_57 1 rfl ?_
    refine c_gets 7 rfl q1315 dJ2_init_2_58 ?_
    obtain ⟨u7, hu7, hf⟩ := ob hf
    refine c_puta (ci := 5) (k := 1) hu7 zcl_5 (Nat.le_of_ble_eq_true rfl) zf_J2_9 fk_201 rfl fits_A dJ2_init_2_61 ?_
    replace hf := retU hf
    subst hf
    exact j_return (bC_mv G A) (hcs_ret (x := ()) (r := ()) hcs) rfl dJ2_init_2_64
  · replace hf := ie h14 hf
    refine j_aload_n dJ2_init_2_21 2 rfl ?_
    obtain ⟨b8, hb8, hf⟩ := ob hf
    obtain ⟨eb8, tb8⟩ := ztg_s hb8
    refine c_getCI eb8 tb8 q1307 (Nat.le_of_ble_eq_true rfl) (Nat.le_of_ble_eq_true rfl) (Nat.le_of_ble_eq_true rfl) dJ2_init_2_22 ?_
    refine c_ldcM10 q1312 dJ2_init_2_27 ?_
    refine j_acmp_ne 40 dJ2_init_2_29 (by decide) (fun h13 => ?_) (fun h13 => ?_)
    · replace hf := ie h13 hf
      refine j_aload_n dJ2_init_2_40 1 rfl ?_
      refine j_aload_n dJ2_init_2_41 0 rfl ?_
      refine j_aload_n dJ2_init_2_42 1 rfl ?_
      obtain ⟨x9, hx9, hf⟩ := ob hf
      refine c_geti (ci := 5) (k := 2) hx9 zcl_5 (Nat.le_of_ble_eq_true rfl) zf_J2_48 fk_202 dJ2_init_2_43 ?_
      refine c_ldcM9 q1313 dJ2_init_2_46 ?_
      obtain ⟨q10, kq10, mq10, k_q10, m_q10, hq10, hf, hkq10, hmq10⟩ := bdU_s hf
      obtain ⟨hczq10, hcs⟩ := hcs_step hcs hkq10 hmq10
      refine a_Sr [pR q4.1, pI x9, pR (G.2.2.2.2 21)] [pR (some b1)] (tJ5_copyOf_2 q4.1 x9 (G.2.2.2.2 21) u6 hq10) ⟨q1314, q389, q138, q390⟩ dvJ5_copyOf_2 rfl ⟨(Nat.le_of_ble_eq_true rfl), (Nat.le_of_ble_eq_true rfl)⟩ rfl (Nat.le_of_ble_eq_true rfl) dJ2_init_2_48 hczq10 ?_
      obtain ⟨u11, hu11, hf⟩ := ob hf
      refine c_puta (ci := 5) (k := 1) hu11 zcl_5 (Nat.le_of_ble_eq_true rfl) zf_J2_9 fk_201 rfl fits_A dJ2_init_2_51 ?_
      refine j_goto 64 dJ2_init_2_54 (by decide) ?_
      replace hf := retU hf
      subst hf
      exact j_return (bC_mv G A) (hcs_ret (x := ()) (r := ()) hcs) rfl dJ2_init_2_64
    · replace hf := it h13 hf
      refine j_aload_n dJ2_init_2_32 1 rfl ?_
      refine j_aload_n dJ2_init_2_33 0 rfl ?_
      obtain ⟨u12, hu12, hf⟩ := ob hf
      refine c_puta (ci := 5) (k := 1) hu12 zcl_5 (Nat.le_of_ble_eq_true rfl) zf_J2_9 fk_201 rfl fits_A dJ2_init_2_34 ?_
      refine j_goto 64 dJ2_init_2_37 (by decide) ?_
      replace hf := retU hf
      subst hf
      exact j_return (bC_mv G A) (hcs_ret (x := ()) (r := ()) hcs) rfl dJ2_init_2_64
theorem tJ2_set {G : CG} {A : Nat → Prop} {l : Launch} {r : Option Nat × Sg} (v0 : Option Nat) (v1 : Int) (v2 : Option Nat) (u : Sg) (hf : fJ2_set G v0 v1 v2 u = some r) : JM kC (bC G A) A l yJ2_set DJ2_set [pR v0, pI v1, pR v2] u (some (pR r.1)) r.2 0 0 := by
  refine j_met (lv0 := [(0, pR v0), (1, pI v1), (2, pR v2)]) ⟨pl_J2, rfl, rfl, (Nat.le_of_ble_eq_true rfl), rfl⟩ ?_
  unfold fJ2_set at hf
  refine j_iload_n dJ2_set_0 1 rfl ?_
  refine j_aload_n dJ2_set_1 0 rfl ?_
  obtain ⟨x1, hx1, hf⟩ := ob hf
  refine c_geti (ci := 5) (k := 2) hx1 zcl_5 (Nat.le_of_ble_eq_true rfl) zf_J2_48 fk_202 dJ2_set_2 ?_
  obtain ⟨x2, hx2, hf⟩ := ob hf
  refine a_Sr [pI v1, pI x1] [] (tJ13_checkIndex v1 x1 u hx2) ⟨q818, q819, q151, q820⟩ dvJ13_checkIndex rfl ⟨(Nat.le_of_ble_eq_true rfl), (Nat.le_of_ble_eq_true rfl)⟩ rfl (Nat.le_of_ble_eq_true rfl) dJ2_set_5 ⟨Nat.le_refl 0, Nat.le_refl 0⟩ ?_
  refine j_pop dJ2_set_8 rfl ?_
  refine j_aload_n dJ2_set_9 0 rfl ?_
  refine j_iload_n dJ2_set_10 1 rfl ?_
  obtain ⟨b3, hb3, hf⟩ := ob hf
  obtain ⟨eb3, tb3⟩ := ztg_s hb3
  obtain ⟨x4, hx4, hf⟩ := ob hf
  refine a_Vr [pI v1] [] (tJ2_elementData (some b3) v1 u hx4) ⟨q824, q825, q826, q131, q827⟩ dvJ2_elementData rfl ⟨(Nat.le_of_ble_eq_true rfl), (Nat.le_of_ble_eq_true rfl)⟩ (c_recv zcl_5 tb3) (by rw [← eb3]; rfl) (Nat.le_of_ble_eq_true rfl) dJ2_set_11 ⟨Nat.le_refl 0, Nat.le_refl 0⟩ ?_
  refine j_astore_n dJ2_set_14 [(3, pR x4), (0, pR v0), (1, pI v1), (2, pR v2)] (Nat.le_of_ble_eq_true rfl) rfl ?_
  refine j_aload_n dJ2_set_15 1 rfl ?_
  obtain ⟨x5, hx5, hf⟩ := ob hf
  refine c_geta (ci := 5) (k := 1) hx5 zcl_5 (Nat.le_of_ble_eq_true rfl) zf_J2_9 fk_201 dJ2_set_16 ?_
  refine j_iload_n dJ2_set_19 2 rfl ?_
  refine j_aload_n dJ2_set_20 3 rfl ?_
  obtain ⟨u6, hu6, hf⟩ := ob hf
  refine c_aast hu6 zok_Object dJ2_set_21 ?_
  refine j_aload_n dJ2_set_22 0 rfl ?_
  replace hf := Option.some.inj hf
  subst hf
  exact j_areturn (bC_mv G A) ⟨Nat.le_refl 0, Nat.le_refl 0⟩ rfl (Or.inl ⟨_, rfl⟩) dJ2_set_23
theorem t1_init {G : CG} {A : Nat → Prop} {l : Launch} {r : Sg} {c0 n0 : Nat} (v0 : Option Nat) (u : Sg) (hf : f1_init G v0 u = some (r, c0, n0)) : JM kC (bC G A) A l yX1_init D1_init [pR v0] u none r c0 n0 := by
  refine j_met (lv0 := [(0, pR v0)]) ⟨pl_X1, rfl, rfl, (Nat.le_of_ble_eq_true rfl), rfl⟩ ?_
  have hcs : 0 + c0 ≤ c0 ∧ 0 + n0 ≤ n0 := ⟨by omega, by omega⟩
  unfold f1_init at hf
  refine j_aload_n dX1_init_0 0 rfl ?_
  obtain ⟨b1, eb1, hg⟩ := ob hf
  clear hf
  subst eb1
  have hf := hg
  clear hg
  refine c_objInit q241 q177 q178 (Nat.le_of_ble_eq_true rfl) (Nat.le_of_ble_eq_true rfl) (Nat.le_of_ble_eq_true rfl) dX1_init_1 ?_
  refine j_aload_n dX1_init_4 0 rfl ?_
  refine j_bipush dX1_init_5 (by decide) ?_
  obtain ⟨q2, kq2, mq2, k_q2, m_q2, hq2, hf, hkq2, hmq2⟩ := bdU_s hf
  obtain ⟨hczq2, hcs⟩ := hcs_step hcs hkq2 hmq2
  refine c_newa hq2 zat_1 dX1_init_7 hczq2 ?_
  obtain ⟨u3, hu3, hf⟩ := ob hf
  refine c_putaF (ci := 1) (k := 0) hu3 zcl_1 (Nat.le_of_ble_eq_true rfl) zf_X1_7 fk_40 rfl rfl rfl fits_A dX1_init_9 ?_
  refine j_aload_n dX1_init_12 0 rfl ?_
  refine j_bipush dX1_init_13 (by decide) ?_
  obtain ⟨q4, kq4, mq4, k_q4, m_q4, hq4, hf, hkq4, hmq4⟩ := bdU_s hf
  obtain ⟨hczq4, hcs⟩ := hcs_step hcs hkq4 hmq4
  refine c_newa hq4 zat_3 dX1_init_15 hczq4 ?_
  obtain ⟨u5, hu5, hf⟩ := ob hf
  refine c_putaF (ci := 1) (k := 1) hu5 zcl_1 (Nat.le_of_ble_eq_true rfl) zf_X1_13 fk_41 rfl rfl rfl fits_A dX1_init_17 ?_
  replace hf := retU hf
  subst hf
  exact j_return (bC_mv G A) (hcs_ret (x := ()) (r := ()) hcs) rfl dX1_init_20
theorem t4_init {G : CG} {A : Nat → Prop} {l : Launch} {r : Sg} {c0 n0 : Nat} (v0 : Option Nat) (v1 : Int) (u : Sg) (hf : f4_init G v0 v1 u = some (r, c0, n0)) : JM kC (bC G A) A l yX4_init D4_init [pR v0, pI v1] u none r c0 n0 := by
  refine j_met (lv0 := [(0, pR v0), (1, pI v1)]) ⟨pl_X4, rfl, rfl, (Nat.le_of_ble_eq_true rfl), rfl⟩ ?_
  have hcs : 0 + c0 ≤ c0 ∧ 0 + n0 ≤ n0 := ⟨by omega, by omega⟩
  unfold f4_init at hf
  refine j_aload_n dX4_init_0 0 rfl ?_
  obtain ⟨b1, eb1, hg⟩ := ob hf
  clear hf
  subst eb1
  have hf := hg
  clear hg
  refine c_objInit q303 q177 q178 (Nat.le_of_ble_eq_true rfl) (Nat.le_of_ble_eq_true rfl) (Nat.le_of_ble_eq_true rfl) dX4_init_1 ?_
  refine j_aload_n dX4_init_4 0 rfl ?_
  refine j_iload_n dX4_init_5 1 rfl ?_
  obtain ⟨q2, kq2, mq2, k_q2, m_q2, hq2, hf, hkq2, hmq2⟩ := bdU_s hf
  obtain ⟨hczq2, hcs⟩ := hcs_step hcs hkq2 hmq2
  refine c_newa hq2 zat_1 dX4_init_6 hczq2 ?_
  obtain ⟨u3, hu3, hf⟩ := ob hf
  refine c_putaF (ci := 4) (k := 0) hu3 zcl_4 (Nat.le_of_ble_eq_true rfl) zf_X4_9 fk_160 rfl rfl rfl fits_A dX4_init_8 ?_
  replace hf := retU hf
  subst hf
  exact j_return (bC_mv G A) (hcs_ret (x := ()) (r := ()) hcs) rfl dX4_init_11
theorem t3_init_l45 {G : CG} {A : Nat → Prop} {l : Launch} {a : List PV} {mc ms : Nat} {r : Sg} {Kf : Sg → Option ((Sg) × Nat × Nat)} (v0 : Option Nat) (hK0 : ∀ (q : Sg) {ce sl c0 n0 : Nat}, ce + c0 ≤ mc ∧ sl + n0 ≤ ms → Kf q = some (r, c0, n0) → JW kC (bC G A) A l D3_init a (jQ (bC G A) A a none r mc ms) mc ms q ce sl 77 [] []) : ∀ (n : Nat) (v2 : Int) (u : Sg) {ce sl c0 n0 : Nat}, ce + c0 ≤ mc ∧ sl + n0 ≤ ms → (bdU (f3_init_l45 G v0 n v2 u) Kf = some (r, c0, n0)) → JW kC (bC G A) A l D3_init a (jQ (bC G A) A a none r mc ms) mc ms u ce sl 45 [(0, pR v0), (2, pI v2)] [] := by
  intro n
  induction n with
  | zero => intro v2 u ce sl c0 n0 hcs hf; exact onK hf
  | succ n ih =>
    intro v2 u ce sl c0 n0 hcs hf
    unfold f3_init_l45 at hf
    refine j_iload_n dX3_init_45 1 rfl ?_
    refine j_bipush dX3_init_46 (by decide) ?_
    refine j_icmp_ge (w32 v2) 8 rfl rfl 77 dX3_init_48 (by decide) (fun h6 => ?_) (fun h6 => ?_)
    · replace hf := itK h6 hf
      exact j_sub [] _ rfl (hK0 u hcs (bdU_0 hf))
    · replace hf := ieK h6 hf
      refine j_aload_n dX3_init_51 0 rfl ?_
      obtain ⟨x1, hx1, hf⟩ := obK hf
      refine c_geta (ci := 3) (k := 0) hx1 zcl_3 (Nat.le_of_ble_eq_true rfl) zf_X3_18 fk_120 dX3_init_52 ?_
      replace hf := bdU_a hf
      obtain ⟨q2, kq2, mq2, k_q2, m_q2, hq2, hf, hkq2, hmq2⟩ := bdU_s hf
      obtain ⟨hczq2, hcs⟩ := hcs_step hcs hkq2 hmq2
      refine c_new (ci := 4) hq2 zcl_4 zmk_4 q298 dX3_init_55 hczq2 ?_
      refine j_dup dX3_init_58 rfl ?_
      refine j_sipush dX3_init_59 (by decide) ?_
      replace hf := bdU_a hf
      obtain ⟨q3, kq3, mq3, k_q3, m_q3, hq3, hf, hkq3, hmq3⟩ := bdU_s hf
      obtain ⟨hczq3, hcs⟩ := hcs_step hcs hkq3 hmq3
      refine c_callI [pI 1220] [pR (some q2.1), pR x1] _ (t4_init (some q2.1) 1220 q2.2 hq3) ⟨q300, q301, q135, q302, rfl, rfl⟩ dv4_init rfl ⟨(Nat.le_of_ble_eq_true rfl), (Nat.le_of_ble_eq_true rfl)⟩ rfl (Nat.le_of_ble_eq_true rfl) dX3_init_62 hczq3 ?_
      obtain ⟨b4, hb4, hf⟩ := obK hf
      obtain ⟨eb4, tb4⟩ := ztg_s hb4
      replace hf := bdU_a hf
      obtain ⟨q5, kq5, mq5, k_q5, m_q5, hq5, hf, hkq5, hmq5⟩ := bdU_s hf
      obtain ⟨hczq5, hcs⟩ := hcs_step hcs hkq5 hmq5
      refine a_Fr (x := ix_2) [pR (some q2.1)] [] (tJ2_add (some b4) (some q2.1) q3 hq5) ⟨q321, q325, q327, q131, q329⟩ iF_2 df_2 rfl ⟨(Nat.le_of_ble_eq_true rfl), (Nat.le_of_ble_eq_true rfl)⟩ zcl_5 rfl tb4 (by rw [← eb4]; rfl) (Nat.le_of_ble_eq_true rfl) dX3_init_65 hczq5 ?_
      refine j_pop dX3_init_70 rfl ?_
      refine j_iinc dX3_init_71 1 rfl [(2, pI (v2 + 1)), (0, pR v0)] (Nat.le_of_ble_eq_true rfl) rfl ?_
      refine j_goto 45 dX3_init_74 (by decide) ?_
      exact j_sub [1, 0] _ rfl (ih (v2 + 1) q5.2 hcs hf)
theorem t3_init {G : CG} {A : Nat → Prop} {l : Launch} {r : Sg} {c0 n0 : Nat} (v0 : Option Nat) (v1 : Option Nat) (u : Sg) (hf : f3_init G v0 v1 u = some (r, c0, n0)) : JM kC (bC G A) A l yX3_init D3_init [pR v0, pR v1] u none r c0 n0 := by
  refine j_met (lv0 := [(0, pR v0), (1, pR v1)]) ⟨pl_X3, rfl, rfl, (Nat.le_of_ble_eq_true rfl), rfl⟩ ?_
  have hcs : 0 + c0 ≤ c0 ∧ 0 + n0 ≤ n0 := ⟨by omega, by omega⟩
  unfold f3_init at hf
  refine j_aload_n dX3_init_0 0 rfl ?_
  refine j_aload_n dX3_init_1 1 rfl ?_
  obtain ⟨u1, hu1, hf⟩ := ob hf
  refine c_putaF (ci := 3) (k := 9) hu1 zcl_3 (Nat.le_of_ble_eq_true rfl) zf_X3_3 fk_129 rfl rfl rfl fits_O dX3_init_2 ?_
  refine j_aload_n dX3_init_5 0 rfl ?_
  obtain ⟨b2, eb2, hg⟩ := ob hf
  clear hf
  subst eb2
  have hf := hg
  clear hg
  refine c_objInit q295 q177 q178 (Nat.le_of_ble_eq_true rfl) (Nat.le_of_ble_eq_true rfl) (Nat.le_of_ble_eq_true rfl) dX3_init_6 ?_
  refine j_aload_n dX3_init_9 0 rfl ?_
  obtain ⟨q3, kq3, mq3, k_q3, m_q3, hq3, hf, hkq3, hmq3⟩ := bdU_s hf
  obtain ⟨hczq3, hcs⟩ := hcs_step hcs hkq3 hmq3
  refine c_new (ci := 5) hq3 zcl_5 zmk_5 q296 dX3_init_10 hczq3 ?_
  refine j_dup dX3_init_13 rfl ?_
  obtain ⟨u4, hu4, hf⟩ := ob hf
  refine c_callI [] [pR (some q3.1), pR (some b2)] _ (tJ2_init (some q3.1) q3.2 hu4) ⟨q297, q211, q131, q212, rfl, rfl⟩ dvJ2_init rfl ⟨(Nat.le_of_ble_eq_true rfl), (Nat.le_of_ble_eq_true rfl)⟩ rfl (Nat.le_of_ble_eq_true rfl) dX3_init_14 (hcs_ret (x := ()) (r := ()) hcs) ?_
  obtain ⟨u5, hu5, hf⟩ := ob hf
  refine c_putaF (ci := 3) (k := 0) hu5 zcl_3 (Nat.le_of_ble_eq_true rfl) zf_X3_18 fk_120 rfl rfl rfl fits_O dX3_init_17 ?_
  refine j_aload_n dX3_init_20 0 rfl ?_
  refine j_bipush dX3_init_21 (by decide) ?_
  obtain ⟨q6, kq6, mq6, k_q6, m_q6, hq6, hf, hkq6, hmq6⟩ := bdU_s hf
  obtain ⟨hczq6, hcs⟩ := hcs_step hcs hkq6 hmq6
  refine c_newa hq6 zat_1 dX3_init_23 hczq6 ?_
  obtain ⟨u7, hu7, hf⟩ := ob hf
  refine c_putaF (ci := 3) (k := 3) hu7 zcl_3 (Nat.le_of_ble_eq_true rfl) zf_X3_22 fk_123 rfl rfl rfl fits_A dX3_init_25 ?_
  refine j_aload_n dX3_init_28 0 rfl ?_
  refine j_iconst dX3_init_29 ?_
  obtain ⟨q8, kq8, mq8, k_q8, m_q8, hq8, hf, hkq8, hmq8⟩ := bdU_s hf
  obtain ⟨hczq8, hcs⟩ := hcs_step hcs hkq8 hmq8
  refine c_newa hq8 zat_3 dX3_init_30 hczq8 ?_
  obtain ⟨u9, hu9, hf⟩ := ob hf
  refine c_putaF (ci := 3) (k := 4) hu9 zcl_3 (Nat.le_of_ble_eq_true rfl) zf_X3_26 fk_124 rfl rfl rfl fits_A dX3_init_32 ?_
  refine j_aload_n dX3_init_35 0 rfl ?_
  refine j_bipush dX3_init_36 (by decide) ?_
  obtain ⟨q10, kq10, mq10, k_q10, m_q10, hq10, hf, hkq10, hmq10⟩ := bdU_s hf
  obtain ⟨hczq10, hcs⟩ := hcs_step hcs hkq10 hmq10
  refine c_newa hq10 zat_1 dX3_init_38 hczq10 ?_
  obtain ⟨u11, hu11, hf⟩ := ob hf
  refine c_putaF (ci := 3) (k := 6) hu11 zcl_3 (Nat.le_of_ble_eq_true rfl) zf_X3_30 fk_126 rfl rfl rfl fits_A dX3_init_40 ?_
  refine j_iconst dX3_init_43 ?_
  refine j_istore_n dX3_init_44 [(2, pI 0), (0, pR (some b2)), (1, pR v1)] (Nat.le_of_ble_eq_true rfl) rfl ?_
  refine j_sub [1, 0] _ rfl (t3_init_l45 (some b2) ?_ NN 0 u11 hcs hf)
  · intro q12 ceq12 slq12 cq12 nq12 hcs hf
    replace hf := retU hf
    subst hf
    exact j_return (bC_mv G A) (hcs_ret (x := ()) (r := ()) hcs) rfl dX3_init_77
theorem t2_init {G : CG} {A : Nat → Prop} {l : Launch} {r : Sg} {c0 n0 : Nat} (v0 : Option Nat) (v1 : Option Nat) (u : Sg) (hf : f2_init G v0 v1 u = some (r, c0, n0)) : JM kC (bC G A) A l yX2_init D2_init [pR v0, pR v1] u none r c0 n0 := by
  refine j_met (lv0 := [(0, pR v0), (1, pR v1)]) ⟨pl_X2, rfl, rfl, (Nat.le_of_ble_eq_true rfl), rfl⟩ ?_
  have hcs : 0 + c0 ≤ c0 ∧ 0 + n0 ≤ n0 := ⟨by omega, by omega⟩
  unfold f2_init at hf
  refine j_aload_n dX2_init_0 0 rfl ?_
  refine j_aload_n dX2_init_1 1 rfl ?_
  obtain ⟨u1, hu1, hf⟩ := ob hf
  refine c_putaF (ci := 2) (k := 6) hu1 zcl_2 (Nat.le_of_ble_eq_true rfl) zf_X2_3 fk_86 rfl rfl rfl fits_O dX2_init_2 ?_
  refine j_aload_n dX2_init_5 0 rfl ?_
  obtain ⟨b2, eb2, hg⟩ := ob hf
  clear hf
  subst eb2
  have hf := hg
  clear hg
  refine c_objInit q262 q177 q178 (Nat.le_of_ble_eq_true rfl) (Nat.le_of_ble_eq_true rfl) (Nat.le_of_ble_eq_true rfl) dX2_init_6 ?_
  refine j_aload_n dX2_init_9 0 rfl ?_
  refine j_bipush dX2_init_10 (by decide) ?_
  obtain ⟨q3, kq3, mq3, k_q3, m_q3, hq3, hf, hkq3, hmq3⟩ := bdU_s hf
  obtain ⟨hczq3, hcs⟩ := hcs_step hcs hkq3 hmq3
  refine c_newa hq3 zat_1 dX2_init_12 hczq3 ?_
  obtain ⟨u4, hu4, hf⟩ := ob hf
  refine c_putaF (ci := 2) (k := 1) hu4 zcl_2 (Nat.le_of_ble_eq_true rfl) zf_X2_15 fk_81 rfl rfl rfl fits_A dX2_init_14 ?_
  refine j_aload_n dX2_init_17 0 rfl ?_
  refine j_bipush dX2_init_18 (by decide) ?_
  obtain ⟨q5, kq5, mq5, k_q5, m_q5, hq5, hf, hkq5, hmq5⟩ := bdU_s hf
  obtain ⟨hczq5, hcs⟩ := hcs_step hcs hkq5 hmq5
  refine c_newa hq5 zat_1 dX2_init_20 hczq5 ?_
  obtain ⟨u6, hu6, hf⟩ := ob hf
  refine c_putaF (ci := 2) (k := 3) hu6 zcl_2 (Nat.le_of_ble_eq_true rfl) zf_X2_19 fk_83 rfl rfl rfl fits_A dX2_init_22 ?_
  refine j_aload_n dX2_init_25 0 rfl ?_
  refine j_iconst dX2_init_26 ?_
  obtain ⟨q7, kq7, mq7, k_q7, m_q7, hq7, hf, hkq7, hmq7⟩ := bdU_s hf
  obtain ⟨hczq7, hcs⟩ := hcs_step hcs hkq7 hmq7
  refine c_newa hq7 zat_1 dX2_init_27 hczq7 ?_
  obtain ⟨u8, hu8, hf⟩ := ob hf
  refine c_putaF (ci := 2) (k := 4) hu8 zcl_2 (Nat.le_of_ble_eq_true rfl) zf_X2_22 fk_84 rfl rfl rfl fits_A dX2_init_29 ?_
  refine j_aload_n dX2_init_32 0 rfl ?_
  refine j_sipush dX2_init_33 (by decide) ?_
  obtain ⟨q9, kq9, mq9, k_q9, m_q9, hq9, hf, hkq9, hmq9⟩ := bdU_s hf
  obtain ⟨hczq9, hcs⟩ := hcs_step hcs hkq9 hmq9
  refine c_newa hq9 zat_2 dX2_init_36 hczq9 ?_
  obtain ⟨u10, hu10, hf⟩ := ob hf
  refine c_putaF (ci := 2) (k := 5) hu10 zcl_2 (Nat.le_of_ble_eq_true rfl) zf_X2_25 fk_85 rfl rfl rfl fits_A dX2_init_38 ?_
  replace hf := retU hf
  subst hf
  exact j_return (bC_mv G A) (hcs_ret (x := ()) (r := ()) hcs) rfl dX2_init_41
theorem t0_init {G : CG} {A : Nat → Prop} {l : Launch} {r : Sg} {c0 n0 : Nat} (v0 : Option Nat) (u : Sg) (hf : f0_init G v0 u = some (r, c0, n0)) : JM kC (bC G A) A l yX0_init D0_init [pR v0] u none r c0 n0 := by
  refine j_met (lv0 := [(0, pR v0)]) ⟨pl_X0, rfl, rfl, (Nat.le_of_ble_eq_true rfl), rfl⟩ ?_
  have hcs : 0 + c0 ≤ c0 ∧ 0 + n0 ≤ n0 := ⟨by omega, by omega⟩
  unfold f0_init at hf
  refine j_aload_n dX0_init_0 0 rfl ?_
  obtain ⟨b1, eb1, hg⟩ := ob hf
  clear hf
  subst eb1
  have hf := hg
  clear hg
  refine c_objInit q176 q177 q178 (Nat.le_of_ble_eq_true rfl) (Nat.le_of_ble_eq_true rfl) (Nat.le_of_ble_eq_true rfl) dX0_init_1 ?_
  refine j_aload_n dX0_init_4 0 rfl ?_
  refine j_bipush dX0_init_5 (by decide) ?_
  obtain ⟨q2, kq2, mq2, k_q2, m_q2, hq2, hf, hkq2, hmq2⟩ := bdU_s hf
  obtain ⟨hczq2, hcs⟩ := hcs_step hcs hkq2 hmq2
  refine c_newa hq2 zat_4 dX0_init_7 hczq2 ?_
  refine j_dup dX0_init_9 rfl ?_
  refine j_iconst dX0_init_10 ?_
  refine j_ldc2 (z := 1717658484) q179 (by decide) dX0_init_11 ?_
  obtain ⟨u3, hu3, hf⟩ := ob hf
  refine c_last hu3 dX0_init_14 ?_
  refine j_dup dX0_init_15 rfl ?_
  refine j_iconst dX0_init_16 ?_
  refine j_ldc2 (z := 7955827) q180 (by decide) dX0_init_17 ?_
  obtain ⟨u4, hu4, hf⟩ := ob hf
  refine c_last hu4 dX0_init_20 ?_
  refine j_dup dX0_init_21 rfl ?_
  refine j_iconst dX0_init_22 ?_
  refine j_ldc2 (z := 7302757) q181 (by decide) dX0_init_23 ?_
  obtain ⟨u5, hu5, hf⟩ := ob hf
  refine c_last hu5 dX0_init_26 ?_
  refine j_dup dX0_init_27 rfl ?_
  refine j_iconst dX0_init_28 ?_
  refine j_ldc2 (z := 1718775661) q182 (by decide) dX0_init_29 ?_
  obtain ⟨u6, hu6, hf⟩ := ob hf
  refine c_last hu6 dX0_init_32 ?_
  refine j_dup dX0_init_33 rfl ?_
  refine j_iconst dX0_init_34 ?_
  refine j_ldc2 (z := 29807) q183 (by decide) dX0_init_35 ?_
  obtain ⟨u7, hu7, hf⟩ := ob hf
  refine c_last hu7 dX0_init_38 ?_
  refine j_dup dX0_init_39 rfl ?_
  refine j_iconst dX0_init_40 ?_
  refine j_ldc2 (z := 1835360622) q184 (by decide) dX0_init_41 ?_
  obtain ⟨u8, hu8, hf⟩ := ob hf
  refine c_last hu8 dX0_init_44 ?_
  refine j_dup dX0_init_45 rfl ?_
  refine j_bipush dX0_init_46 (by decide) ?_
  refine j_ldc2 (z := 427071792498) q185 (by decide) dX0_init_48 ?_
  obtain ⟨u9, hu9, hf⟩ := ob hf
  refine c_last hu9 dX0_init_51 ?_
  refine j_dup dX0_init_52 rfl ?_
  refine j_bipush dX0_init_53 (by decide) ?_
  refine j_ldc2 (z := 465557354085) q186 (by decide) dX0_init_55 ?_
  obtain ⟨u10, hu10, hf⟩ := ob hf
  refine c_last hu10 dX0_init_58 ?_
  refine j_dup dX0_init_59 rfl ?_
  refine j_bipush dX0_init_60 (by decide) ?_
  refine j_ldc2 (z := 1650549611) q187 (by decide) dX0_init_62 ?_
  obtain ⟨u11, hu11, hf⟩ := ob hf
  refine c_last hu11 dX0_init_65 ?_
  refine j_dup dX0_init_66 rfl ?_
  refine j_bipush dX0_init_67 (by decide) ?_
  refine j_ldc2 (z := 439855772532) q188 (by decide) dX0_init_69 ?_
  obtain ⟨u12, hu12, hf⟩ := ob hf
  refine c_last hu12 dX0_init_72 ?_
  refine j_dup dX0_init_73 rfl ?_
  refine j_bipush dX0_init_74 (by decide) ?_
  refine j_ldc2 (z := 495672455781) q189 (by decide) dX0_init_76 ?_
  obtain ⟨u13, hu13, hf⟩ := ob hf
  refine c_last hu13 dX0_init_79 ?_
  refine j_dup dX0_init_80 rfl ?_
  refine j_bipush dX0_init_81 (by decide) ?_
  refine j_ldc2 (z := 1836020596) q190 (by decide) dX0_init_83 ?_
  obtain ⟨u14, hu14, hf⟩ := ob hf
  refine c_last hu14 dX0_init_86 ?_
  refine j_dup dX0_init_87 rfl ?_
  refine j_bipush dX0_init_88 (by decide) ?_
  refine j_ldc2 (z := 435778055796) q191 (by decide) dX0_init_90 ?_
  obtain ⟨u15, hu15, hf⟩ := ob hf
  refine c_last hu15 dX0_init_93 ?_
  refine j_dup dX0_init_94 rfl ?_
  refine j_bipush dX0_init_95 (by decide) ?_
  refine j_ldc2 (z := 2036687218) q192 (by decide) dX0_init_97 ?_
  obtain ⟨u16, hu16, hf⟩ := ob hf
  refine c_last hu16 dX0_init_100 ?_
  refine j_dup dX0_init_101 rfl ?_
  refine j_bipush dX0_init_102 (by decide) ?_
  refine j_ldc2 (z := 6384748) q193 (by decide) dX0_init_104 ?_
  obtain ⟨u17, hu17, hf⟩ := ob hf
  refine c_last hu17 dX0_init_107 ?_
  refine j_dup dX0_init_108 rfl ?_
  refine j_bipush dX0_init_109 (by decide) ?_
  refine j_ldc2 (z := 1918989413) q194 (by decide) dX0_init_111 ?_
  obtain ⟨u18, hu18, hf⟩ := ob hf
  refine c_last hu18 dX0_init_114 ?_
  refine j_dup dX0_init_115 rfl ?_
  refine j_bipush dX0_init_116 (by decide) ?_
  refine j_ldc2 (z := 499984983411) q195 (by decide) dX0_init_118 ?_
  obtain ⟨u19, hu19, hf⟩ := ob hf
  refine c_last hu19 dX0_init_121 ?_
  refine j_dup dX0_init_122 rfl ?_
  refine j_bipush dX0_init_123 (by decide) ?_
  refine j_ldc2 (z := 1886156147) q196 (by decide) dX0_init_125 ?_
  obtain ⟨u20, hu20, hf⟩ := ob hf
  refine c_last hu20 dX0_init_128 ?_
  refine j_dup dX0_init_129 rfl ?_
  refine j_bipush dX0_init_130 (by decide) ?_
  refine j_ldc2 (z := 491496238692) q197 (by decide) dX0_init_132 ?_
  obtain ⟨u21, hu21, hf⟩ := ob hf
  refine c_last hu21 dX0_init_135 ?_
  refine j_dup dX0_init_136 rfl ?_
  refine j_bipush dX0_init_137 (by decide) ?_
  refine j_ldc2 (z := 465557353332) q198 (by decide) dX0_init_139 ?_
  obtain ⟨u22, hu22, hf⟩ := ob hf
  refine c_last hu22 dX0_init_142 ?_
  refine j_dup dX0_init_143 rfl ?_
  refine j_bipush dX0_init_144 (by decide) ?_
  refine j_ldc2 (z := 26982) q199 (by decide) dX0_init_146 ?_
  obtain ⟨u23, hu23, hf⟩ := ob hf
  refine c_last hu23 dX0_init_149 ?_
  refine j_dup dX0_init_150 rfl ?_
  refine j_bipush dX0_init_151 (by decide) ?_
  refine j_ldc2 (z := 28530) q200 (by decide) dX0_init_153 ?_
  obtain ⟨u24, hu24, hf⟩ := ob hf
  refine c_last hu24 dX0_init_156 ?_
  refine j_dup dX0_init_157 rfl ?_
  refine j_bipush dX0_init_158 (by decide) ?_
  refine j_ldc2 (z := 6385252) q201 (by decide) dX0_init_160 ?_
  obtain ⟨u25, hu25, hf⟩ := ob hf
  refine c_last hu25 dX0_init_163 ?_
  refine j_dup dX0_init_164 rfl ?_
  refine j_bipush dX0_init_165 (by decide) ?_
  refine j_ldc2 (z := 7237492) q202 (by decide) dX0_init_167 ?_
  obtain ⟨u26, hu26, hf⟩ := ob hf
  refine c_last hu26 dX0_init_170 ?_
  refine j_dup dX0_init_171 rfl ?_
  refine j_bipush dX0_init_172 (by decide) ?_
  refine j_ldc2 (z := 126943972911973) q203 (by decide) dX0_init_174 ?_
  obtain ⟨u27, hu27, hf⟩ := ob hf
  refine c_last hu27 dX0_init_177 ?_
  refine j_dup dX0_init_178 rfl ?_
  refine j_bipush dX0_init_179 (by decide) ?_
  refine j_ldc2 (z := 29676314707714404) q204 (by decide) dX0_init_181 ?_
  obtain ⟨u28, hu28, hf⟩ := ob hf
  refine c_last hu28 dX0_init_184 ?_
  refine j_dup dX0_init_185 rfl ?_
  refine j_bipush dX0_init_186 (by decide) ?_
  refine j_ldc2 (z := 107118487239027) q205 (by decide) dX0_init_188 ?_
  obtain ⟨u29, hu29, hf⟩ := ob hf
  refine c_last hu29 dX0_init_191 ?_
  refine j_dup dX0_init_192 rfl ?_
  refine j_bipush dX0_init_193 (by decide) ?_
  refine j_ldc2 (z := 474148660594) q206 (by decide) dX0_init_195 ?_
  obtain ⟨u30, hu30, hf⟩ := ob hf
  refine c_last hu30 dX0_init_198 ?_
  refine j_dup dX0_init_199 rfl ?_
  refine j_bipush dX0_init_200 (by decide) ?_
  refine j_ldc2 (z := 7168377) q207 (by decide) dX0_init_202 ?_
  obtain ⟨u31, hu31, hf⟩ := ob hf
  refine c_last hu31 dX0_init_205 ?_
  obtain ⟨u32, hu32, hf⟩ := ob hf
  refine c_putaF (ci := 0) (k := 0) hu32 zcl_0 (Nat.le_of_ble_eq_true rfl) zf_X0_1 fk_0 rfl rfl rfl fits_A dX0_init_206 ?_
  refine j_aload_n dX0_init_209 0 rfl ?_
  refine j_sipush dX0_init_210 (by decide) ?_
  obtain ⟨q33, kq33, mq33, k_q33, m_q33, hq33, hf, hkq33, hmq33⟩ := bdU_s hf
  obtain ⟨hczq33, hcs⟩ := hcs_step hcs hkq33 hmq33
  refine c_newa hq33 zat_2 dX0_init_213 hczq33 ?_
  obtain ⟨u34, hu34, hf⟩ := ob hf
  refine c_putaF (ci := 0) (k := 1) hu34 zcl_0 (Nat.le_of_ble_eq_true rfl) zf_X0_71 fk_1 rfl rfl rfl fits_A dX0_init_215 ?_
  refine j_aload_n dX0_init_218 0 rfl ?_
  refine j_iconst dX0_init_219 ?_
  obtain ⟨u35, hu35, hf⟩ := ob hf
  refine c_puti (ci := 0) (k := 3) hu35 zcl_0 (Nat.le_of_ble_eq_true rfl) zf_X0_75 fk_3 rfl fits_I dX0_init_220 ?_
  refine j_aload_n dX0_init_223 0 rfl ?_
  obtain ⟨q36, kq36, mq36, k_q36, m_q36, hq36, hf, hkq36, hmq36⟩ := bdU_s hf
  obtain ⟨hczq36, hcs⟩ := hcs_step hcs hkq36 hmq36
  refine c_new (ci := 5) hq36 zcl_5 zmk_5 q208 dX0_init_224 hczq36 ?_
  refine j_dup dX0_init_227 rfl ?_
  obtain ⟨u37, hu37, hf⟩ := ob hf
  refine c_callI [] [pR (some q36.1), pR (some b1)] _ (tJ2_init (some q36.1) q36.2 hu37) ⟨q210, q211, q131, q212, rfl, rfl⟩ dvJ2_init rfl ⟨(Nat.le_of_ble_eq_true rfl), (Nat.le_of_ble_eq_true rfl)⟩ rfl (Nat.le_of_ble_eq_true rfl) dX0_init_228 (hcs_ret (x := ()) (r := ()) hcs) ?_
  obtain ⟨u38, hu38, hf⟩ := ob hf
  refine c_putaF (ci := 0) (k := 5) hu38 zcl_0 (Nat.le_of_ble_eq_true rfl) zf_X0_82 fk_5 rfl rfl rfl fits_O dX0_init_231 ?_
  refine j_aload_n dX0_init_234 0 rfl ?_
  obtain ⟨q39, kq39, mq39, k_q39, m_q39, hq39, hf, hkq39, hmq39⟩ := bdU_s hf
  obtain ⟨hczq39, hcs⟩ := hcs_step hcs hkq39 hmq39
  refine c_new (ci := 5) hq39 zcl_5 zmk_5 q208 dX0_init_235 hczq39 ?_
  refine j_dup dX0_init_238 rfl ?_
  obtain ⟨u40, hu40, hf⟩ := ob hf
  refine c_callI [] [pR (some q39.1), pR (some b1)] _ (tJ2_init (some q39.1) q39.2 hu40) ⟨q210, q211, q131, q212, rfl, rfl⟩ dvJ2_init rfl ⟨(Nat.le_of_ble_eq_true rfl), (Nat.le_of_ble_eq_true rfl)⟩ rfl (Nat.le_of_ble_eq_true rfl) dX0_init_239 (hcs_ret (x := ()) (r := ()) hcs) ?_
  obtain ⟨u41, hu41, hf⟩ := ob hf
  refine c_putaF (ci := 0) (k := 6) hu41 zcl_0 (Nat.le_of_ble_eq_true rfl) zf_X0_86 fk_6 rfl rfl rfl fits_O dX0_init_242 ?_
  refine j_aload_n dX0_init_245 0 rfl ?_
  obtain ⟨q42, kq42, mq42, k_q42, m_q42, hq42, hf, hkq42, hmq42⟩ := bdU_s hf
  obtain ⟨hczq42, hcs⟩ := hcs_step hcs hkq42 hmq42
  refine c_new (ci := 5) hq42 zcl_5 zmk_5 q208 dX0_init_246 hczq42 ?_
  refine j_dup dX0_init_249 rfl ?_
  obtain ⟨u43, hu43, hf⟩ := ob hf
  refine c_callI [] [pR (some q42.1), pR (some b1)] _ (tJ2_init (some q42.1) q42.2 hu43) ⟨q210, q211, q131, q212, rfl, rfl⟩ dvJ2_init rfl ⟨(Nat.le_of_ble_eq_true rfl), (Nat.le_of_ble_eq_true rfl)⟩ rfl (Nat.le_of_ble_eq_true rfl) dX0_init_250 (hcs_ret (x := ()) (r := ()) hcs) ?_
  obtain ⟨u44, hu44, hf⟩ := ob hf
  refine c_putaF (ci := 0) (k := 7) hu44 zcl_0 (Nat.le_of_ble_eq_true rfl) zf_X0_89 fk_7 rfl rfl rfl fits_O dX0_init_253 ?_
  refine j_aload_n dX0_init_256 0 rfl ?_
  obtain ⟨q45, kq45, mq45, k_q45, m_q45, hq45, hf, hkq45, hmq45⟩ := bdU_s hf
  obtain ⟨hczq45, hcs⟩ := hcs_step hcs hkq45 hmq45
  refine c_new (ci := 5) hq45 zcl_5 zmk_5 q208 dX0_init_257 hczq45 ?_
  refine j_dup dX0_init_260 rfl ?_
  obtain ⟨u46, hu46, hf⟩ := ob hf
  refine c_callI [] [pR (some q45.1), pR (some b1)] _ (tJ2_init (some q45.1) q45.2 hu46) ⟨q210, q211, q131, q212, rfl, rfl⟩ dvJ2_init rfl ⟨(Nat.le_of_ble_eq_true rfl), (Nat.le_of_ble_eq_true rfl)⟩ rfl (Nat.le_of_ble_eq_true rfl) dX0_init_261 (hcs_ret (x := ()) (r := ()) hcs) ?_
  obtain ⟨u47, hu47, hf⟩ := ob hf
  refine c_putaF (ci := 0) (k := 8) hu47 zcl_0 (Nat.le_of_ble_eq_true rfl) zf_X0_92 fk_8 rfl rfl rfl fits_O dX0_init_264 ?_
  refine j_aload_n dX0_init_267 0 rfl ?_
  refine j_bipush dX0_init_268 (by decide) ?_
  obtain ⟨q48, kq48, mq48, k_q48, m_q48, hq48, hf, hkq48, hmq48⟩ := bdU_s hf
  obtain ⟨hczq48, hcs⟩ := hcs_step hcs hkq48 hmq48
  refine c_newa hq48 zat_1 dX0_init_270 hczq48 ?_
  obtain ⟨u49, hu49, hf⟩ := ob hf
  refine c_putaF (ci := 0) (k := 9) hu49 zcl_0 (Nat.le_of_ble_eq_true rfl) zf_X0_95 fk_9 rfl rfl rfl fits_A dX0_init_272 ?_
  refine j_aload_n dX0_init_275 0 rfl ?_
  refine j_bipush dX0_init_276 (by decide) ?_
  obtain ⟨q50, kq50, mq50, k_q50, m_q50, hq50, hf, hkq50, hmq50⟩ := bdU_s hf
  obtain ⟨hczq50, hcs⟩ := hcs_step hcs hkq50 hmq50
  refine c_newa hq50 zat_1 dX0_init_278 hczq50 ?_
  obtain ⟨u51, hu51, hf⟩ := ob hf
  refine c_putaF (ci := 0) (k := 10) hu51 zcl_0 (Nat.le_of_ble_eq_true rfl) zf_X0_99 fk_10 rfl rfl rfl fits_A dX0_init_280 ?_
  refine j_aload_n dX0_init_283 0 rfl ?_
  refine j_bipush dX0_init_284 (by decide) ?_
  obtain ⟨q52, kq52, mq52, k_q52, m_q52, hq52, hf, hkq52, hmq52⟩ := bdU_s hf
  obtain ⟨hczq52, hcs⟩ := hcs_step hcs hkq52 hmq52
  refine c_newa hq52 zat_1 dX0_init_286 hczq52 ?_
  obtain ⟨u53, hu53, hf⟩ := ob hf
  refine c_putaF (ci := 0) (k := 11) hu53 zcl_0 (Nat.le_of_ble_eq_true rfl) zf_X0_102 fk_11 rfl rfl rfl fits_A dX0_init_288 ?_
  refine j_aload_n dX0_init_291 0 rfl ?_
  obtain ⟨q54, kq54, mq54, k_q54, m_q54, hq54, hf, hkq54, hmq54⟩ := bdU_s hf
  obtain ⟨hczq54, hcs⟩ := hcs_step hcs hkq54 hmq54
  refine c_new (ci := 1) hq54 zcl_1 zmk_1 q236 dX0_init_292 hczq54 ?_
  refine j_dup dX0_init_295 rfl ?_
  obtain ⟨q55, kq55, mq55, k_q55, m_q55, hq55, hf, hkq55, hmq55⟩ := bdU_s hf
  obtain ⟨hczq55, hcs⟩ := hcs_step hcs hkq55 hmq55
  refine c_callIN [] [pR (some q54.1), pR (some b1)] _ (t1_init (some q54.1) q54.2 hq55) ⟨q238, q239, q132, q240, rfl, rfl⟩ dv1_init rfl ⟨(Nat.le_of_ble_eq_true rfl), (Nat.le_of_ble_eq_true rfl)⟩ rfl (Nat.le_of_ble_eq_true rfl) dX0_init_296 hczq55 ?_
  obtain ⟨u56, hu56, hf⟩ := ob hf
  refine c_putaF (ci := 0) (k := 13) hu56 zcl_0 (Nat.le_of_ble_eq_true rfl) zf_X0_108 fk_13 rfl rfl rfl fits_O dX0_init_299 ?_
  refine j_aload_n dX0_init_302 0 rfl ?_
  obtain ⟨q57, kq57, mq57, k_q57, m_q57, hq57, hf, hkq57, hmq57⟩ := bdU_s hf
  obtain ⟨hczq57, hcs⟩ := hcs_step hcs hkq57 hmq57
  refine c_new (ci := 2) hq57 zcl_2 zmk_2 q257 dX0_init_303 hczq57 ?_
  refine j_dup dX0_init_306 rfl ?_
  refine j_aload_n dX0_init_307 0 rfl ?_
  obtain ⟨q58, kq58, mq58, k_q58, m_q58, hq58, hf, hkq58, hmq58⟩ := bdU_s hf
  obtain ⟨hczq58, hcs⟩ := hcs_step hcs hkq58 hmq58
  refine c_callIN [pR (some b1)] [pR (some q57.1), pR (some b1)] _ (t2_init (some q57.1) (some b1) q57.2 hq58) ⟨q259, q260, q133, q261, rfl, rfl⟩ dv2_init rfl ⟨(Nat.le_of_ble_eq_true rfl), (Nat.le_of_ble_eq_true rfl)⟩ rfl (Nat.le_of_ble_eq_true rfl) dX0_init_308 hczq58 ?_
  obtain ⟨u59, hu59, hf⟩ := ob hf
  refine c_putaF (ci := 0) (k := 14) hu59 zcl_0 (Nat.le_of_ble_eq_true rfl) zf_X0_117 fk_14 rfl rfl rfl fits_O dX0_init_311 ?_
  refine j_aload_n dX0_init_314 0 rfl ?_
  obtain ⟨q60, kq60, mq60, k_q60, m_q60, hq60, hf, hkq60, hmq60⟩ := bdU_s hf
  obtain ⟨hczq60, hcs⟩ := hcs_step hcs hkq60 hmq60
  refine c_new (ci := 3) hq60 zcl_3 zmk_3 q290 dX0_init_315 hczq60 ?_
  refine j_dup dX0_init_318 rfl ?_
  refine j_aload_n dX0_init_319 0 rfl ?_
  obtain ⟨q61, kq61, mq61, k_q61, m_q61, hq61, hf, hkq61, hmq61⟩ := bdU_s hf
  obtain ⟨hczq61, hcs⟩ := hcs_step hcs hkq61 hmq61
  refine c_callI [pR (some b1)] [pR (some q60.1), pR (some b1)] _ (t3_init (some q60.1) (some b1) q60.2 hq61) ⟨q292, q293, q134, q294, rfl, rfl⟩ dv3_init rfl ⟨(Nat.le_of_ble_eq_true rfl), (Nat.le_of_ble_eq_true rfl)⟩ rfl (Nat.le_of_ble_eq_true rfl) dX0_init_320 hczq61 ?_
  obtain ⟨u62, hu62, hf⟩ := ob hf
  refine c_putaF (ci := 0) (k := 15) hu62 zcl_0 (Nat.le_of_ble_eq_true rfl) zf_X0_124 fk_15 rfl rfl rfl fits_O dX0_init_323 ?_
  refine j_aload_n dX0_init_326 0 rfl ?_
  refine j_bipush dX0_init_327 (by decide) ?_
  obtain ⟨q63, kq63, mq63, k_q63, m_q63, hq63, hf, hkq63, hmq63⟩ := bdU_s hf
  obtain ⟨hczq63, hcs⟩ := hcs_step hcs hkq63 hmq63
  refine c_newa hq63 zat_1 dX0_init_329 hczq63 ?_
  obtain ⟨u64, hu64, hf⟩ := ob hf
  refine c_putaF (ci := 0) (k := 16) hu64 zcl_0 (Nat.le_of_ble_eq_true rfl) zf_X0_128 fk_16 rfl rfl rfl fits_A dX0_init_331 ?_
  refine j_aload_n dX0_init_334 0 rfl ?_
  refine j_bipush dX0_init_335 (by decide) ?_
  obtain ⟨q65, kq65, mq65, k_q65, m_q65, hq65, hf, hkq65, hmq65⟩ := bdU_s hf
  obtain ⟨hczq65, hcs⟩ := hcs_step hcs hkq65 hmq65
  refine c_newa hq65 zat_1 dX0_init_337 hczq65 ?_
  obtain ⟨u66, hu66, hf⟩ := ob hf
  refine c_putaF (ci := 0) (k := 17) hu66 zcl_0 (Nat.le_of_ble_eq_true rfl) zf_X0_131 fk_17 rfl rfl rfl fits_A dX0_init_339 ?_
  refine j_aload_n dX0_init_342 0 rfl ?_
  refine j_sipush dX0_init_343 (by decide) ?_
  obtain ⟨q67, kq67, mq67, k_q67, m_q67, hq67, hf, hkq67, hmq67⟩ := bdU_s hf
  obtain ⟨hczq67, hcs⟩ := hcs_step hcs hkq67 hmq67
  refine c_newa hq67 zat_1 dX0_init_346 hczq67 ?_
  obtain ⟨u68, hu68, hf⟩ := ob hf
  refine c_putaF (ci := 0) (k := 18) hu68 zcl_0 (Nat.le_of_ble_eq_true rfl) zf_X0_134 fk_18 rfl rfl rfl fits_A dX0_init_348 ?_
  refine j_aload_n dX0_init_351 0 rfl ?_
  refine j_sipush dX0_init_352 (by decide) ?_
  obtain ⟨q69, kq69, mq69, k_q69, m_q69, hq69, hf, hkq69, hmq69⟩ := bdU_s hf
  obtain ⟨hczq69, hcs⟩ := hcs_step hcs hkq69 hmq69
  refine c_newa hq69 zat_1 dX0_init_355 hczq69 ?_
  obtain ⟨u70, hu70, hf⟩ := ob hf
  refine c_putaF (ci := 0) (k := 19) hu70 zcl_0 (Nat.le_of_ble_eq_true rfl) zf_X0_137 fk_19 rfl rfl rfl fits_A dX0_init_357 ?_
  refine j_aload_n dX0_init_360 0 rfl ?_
  refine j_sipush dX0_init_361 (by decide) ?_
  obtain ⟨q71, kq71, mq71, k_q71, m_q71, hq71, hf, hkq71, hmq71⟩ := bdU_s hf
  obtain ⟨hczq71, hcs⟩ := hcs_step hcs hkq71 hmq71
  refine c_newa hq71 zat_1 dX0_init_364 hczq71 ?_
  obtain ⟨u72, hu72, hf⟩ := ob hf
  refine c_putaF (ci := 0) (k := 20) hu72 zcl_0 (Nat.le_of_ble_eq_true rfl) zf_X0_140 fk_20 rfl rfl rfl fits_A dX0_init_366 ?_
  refine j_aload_n dX0_init_369 0 rfl ?_
  refine j_sipush dX0_init_370 (by decide) ?_
  obtain ⟨q73, kq73, mq73, k_q73, m_q73, hq73, hf, hkq73, hmq73⟩ := bdU_s hf
  obtain ⟨hczq73, hcs⟩ := hcs_step hcs hkq73 hmq73
  refine c_newa hq73 zat_1 dX0_init_373 hczq73 ?_
  obtain ⟨u74, hu74, hf⟩ := ob hf
  refine c_putaF (ci := 0) (k := 21) hu74 zcl_0 (Nat.le_of_ble_eq_true rfl) zf_X0_143 fk_21 rfl rfl rfl fits_A dX0_init_375 ?_
  refine j_aload_n dX0_init_378 0 rfl ?_
  refine j_bipush dX0_init_379 (by decide) ?_
  obtain ⟨q75, kq75, mq75, k_q75, m_q75, hq75, hf, hkq75, hmq75⟩ := bdU_s hf
  obtain ⟨hczq75, hcs⟩ := hcs_step hcs hkq75 hmq75
  refine c_newa hq75 zat_4 dX0_init_381 hczq75 ?_
  obtain ⟨u76, hu76, hf⟩ := ob hf
  refine c_putaF (ci := 0) (k := 24) hu76 zcl_0 (Nat.le_of_ble_eq_true rfl) zf_X0_146 fk_24 rfl rfl rfl fits_A dX0_init_383 ?_
  refine j_aload_n dX0_init_386 0 rfl ?_
  refine j_sipush dX0_init_387 (by decide) ?_
  obtain ⟨q77, kq77, mq77, k_q77, m_q77, hq77, hf, hkq77, hmq77⟩ := bdU_s hf
  obtain ⟨hczq77, hcs⟩ := hcs_step hcs hkq77 hmq77
  refine c_newa hq77 zat_1 dX0_init_390 hczq77 ?_
  obtain ⟨u78, hu78, hf⟩ := ob hf
  refine c_putaF (ci := 0) (k := 25) hu78 zcl_0 (Nat.le_of_ble_eq_true rfl) zf_X0_149 fk_25 rfl rfl rfl fits_A dX0_init_392 ?_
  refine j_aload_n dX0_init_395 0 rfl ?_
  refine j_iconst dX0_init_396 ?_
  obtain ⟨q79, kq79, mq79, k_q79, m_q79, hq79, hf, hkq79, hmq79⟩ := bdU_s hf
  obtain ⟨hczq79, hcs⟩ := hcs_step hcs hkq79 hmq79
  refine c_newa hq79 zat_1 dX0_init_397 hczq79 ?_
  obtain ⟨u80, hu80, hf⟩ := ob hf
  refine c_putaF (ci := 0) (k := 27) hu80 zcl_0 (Nat.le_of_ble_eq_true rfl) zf_X0_152 fk_27 rfl rfl rfl fits_A dX0_init_399 ?_
  refine j_aload_n dX0_init_402 0 rfl ?_
  refine j_sipush dX0_init_403 (by decide) ?_
  obtain ⟨q81, kq81, mq81, k_q81, m_q81, hq81, hf, hkq81, hmq81⟩ := bdU_s hf
  obtain ⟨hczq81, hcs⟩ := hcs_step hcs hkq81 hmq81
  refine c_newa hq81 zat_4 dX0_init_406 hczq81 ?_
  obtain ⟨u82, hu82, hf⟩ := ob hf
  refine c_putaF (ci := 0) (k := 28) hu82 zcl_0 (Nat.le_of_ble_eq_true rfl) zf_X0_155 fk_28 rfl rfl rfl fits_A dX0_init_408 ?_
  refine j_aload_n dX0_init_411 0 rfl ?_
  refine j_sipush dX0_init_412 (by decide) ?_
  obtain ⟨q83, kq83, mq83, k_q83, m_q83, hq83, hf, hkq83, hmq83⟩ := bdU_s hf
  obtain ⟨hczq83, hcs⟩ := hcs_step hcs hkq83 hmq83
  refine c_newa hq83 zat_4 dX0_init_415 hczq83 ?_
  obtain ⟨u84, hu84, hf⟩ := ob hf
  refine c_putaF (ci := 0) (k := 29) hu84 zcl_0 (Nat.le_of_ble_eq_true rfl) zf_X0_158 fk_29 rfl rfl rfl fits_A dX0_init_417 ?_
  refine j_aload_n dX0_init_420 0 rfl ?_
  refine j_sipush dX0_init_421 (by decide) ?_
  obtain ⟨q85, kq85, mq85, k_q85, m_q85, hq85, hf, hkq85, hmq85⟩ := bdU_s hf
  obtain ⟨hczq85, hcs⟩ := hcs_step hcs hkq85 hmq85
  refine c_newa hq85 zat_4 dX0_init_424 hczq85 ?_
  obtain ⟨u86, hu86, hf⟩ := ob hf
  refine c_putaF (ci := 0) (k := 30) hu86 zcl_0 (Nat.le_of_ble_eq_true rfl) zf_X0_161 fk_30 rfl rfl rfl fits_A dX0_init_426 ?_
  replace hf := retU hf
  subst hf
  exact j_return (bC_mv G A) (hcs_ret (x := ()) (r := ()) hcs) rfl dX0_init_429
theorem t0_type_l44 {G : CG} {A : Nat → Prop} {l : Launch} {a : List PV} {r : Int × Sg} {Kf : Sg → Option (Int × Sg)} (v0 : Option Nat) (v1 : Int) (hK0 : ∀ q : Sg, Kf q = some r → JW kC (bC G A) A l D0_type a (jQ (bC G A) A a (some (pI r.1)) r.2 0 0) 0 0 q 0 0 80 [(0, pR v0)] []) : ∀ (n : Nat) (v4 : Int) (u : Sg), ((f0_type_l44 G v0 v1 n v4 u).bind Kf = some r) → JW kC (bC G A) A l D0_type a (jQ (bC G A) A a (some (pI r.1)) r.2 0 0) 0 0 u 0 0 44 [(0, pR v0), (1, pL v1), (4, pI v4)] [] := by
  intro n
  induction n with
  | zero => intro v4 u hf; exact onb hf
  | succ n ih =>
    intro v4 u hf
    unfold f0_type_l44 at hf
    refine j_iload dX0_type_44 2 rfl ?_
    refine j_if_lt (w32 v4) rfl 80 dX0_type_46 (by decide) (fun h5 => ?_) (fun h5 => ?_)
    · replace hf := itb h5 hf
      exact j_sub [0] _ rfl (hK0 u hf)
    · replace hf := ieb h5 hf
      refine j_aload_n dX0_type_49 0 rfl ?_
      obtain ⟨x1, hx1, hf⟩ := obb hf
      refine c_geta (ci := 0) (k := 1) hx1 zcl_0 (Nat.le_of_ble_eq_true rfl) zf_X0_71 fk_1 dX0_type_50 ?_
      refine j_aload_n dX0_type_53 0 rfl ?_
      refine j_dup dX0_type_54 rfl ?_
      obtain ⟨x2, hx2, hf⟩ := obb hf
      refine c_geti (ci := 0) (k := 2) hx2 zcl_0 (Nat.le_of_ble_eq_true rfl) zf_X0_164 fk_2 dX0_type_55 ?_
      refine j_dup_x1 dX0_type_58 rfl rfl ?_
      refine j_iconst dX0_type_59 ?_
      refine j_iadd dX0_type_60 ?_
      obtain ⟨u3, hu3, hf⟩ := obb hf
      refine c_puti (ci := 0) (k := 2) hu3 zcl_0 (Nat.le_of_ble_eq_true rfl) zf_X0_164 fk_2 rfl fits_I dX0_type_61 ?_
      refine j_lload_n dX0_type_64 1 rfl ?_
      refine j_bipush dX0_type_65 (by decide) ?_
      refine j_iload dX0_type_67 2 rfl ?_
      refine j_imul dX0_type_69 ?_
      refine j_lshr dX0_type_70 ?_
      refine j_l2i dX0_type_71 ?_
      refine j_i2b dX0_type_72 ?_
      obtain ⟨u4, hu4, hf⟩ := obb hf
      refine c_bast hu4 dX0_type_73 ?_
      refine j_iinc dX0_type_74 2 rfl [(4, pI (v4 + (-1))), (0, pR v0), (1, pL v1)] (Nat.le_of_ble_eq_true rfl) rfl ?_
      refine j_goto 44 dX0_type_77 (by decide) ?_
      exact j_sub [1, 2, 0] _ rfl (ih (v4 + (-1)) u4 hf)
theorem t0_type {G : CG} {A : Nat → Prop} {l : Launch} {r : Int × Sg} (v0 : Option Nat) (v1 : Int) (v3 : Int) (u : Sg) (hf : f0_type G v0 v1 v3 u = some r) : JM kC (bC G A) A l yX0_type D0_type [pR v0, pL v1, pI v3] u (some (pI r.1)) r.2 0 0 := by
  refine j_met (lv0 := [(0, pR v0), (1, pL v1), (3, pI v3)]) ⟨pl_X0, rfl, rfl, (Nat.le_of_ble_eq_true rfl), rfl⟩ ?_
  unfold f0_type at hf
  refine j_iload_n dX0_type_0 2 rfl ?_
  refine j_if_lt (w32 v3) rfl 10 dX0_type_1 (by decide) (fun h8 => ?_) (fun h8 => ?_)
  · replace hf := it h8 hf
    refine j_bipush dX0_type_10 (by decide) ?_
    replace hf := Option.some.inj hf
    subst hf
    exact j_ireturn (bC_mv G A) ⟨Nat.le_refl 0, Nat.le_refl 0⟩ rfl dX0_type_12
  · replace hf := ie h8 hf
    refine j_iload_n dX0_type_4 2 rfl ?_
    refine j_bipush dX0_type_5 (by decide) ?_
    refine j_icmp_le (w32 v3) 8 rfl rfl 13 dX0_type_7 (by decide) (fun h7 => ?_) (fun h7 => ?_)
    · replace hf := it h7 hf
      refine j_iload_n dX0_type_13 2 rfl ?_
      refine j_if_ne (w32 v3) rfl 24 dX0_type_14 (by decide) (fun h6 => ?_) (fun h6 => ?_)
      · replace hf := ie h6 hf
        refine j_aload_n dX0_type_24 0 rfl ?_
        obtain ⟨x1, hx1, hf⟩ := ob hf
        refine c_geti (ci := 0) (k := 2) hx1 zcl_0 (Nat.le_of_ble_eq_true rfl) zf_X0_164 fk_2 dX0_type_25 ?_
        refine j_iload_n dX0_type_28 2 rfl ?_
        refine j_iadd dX0_type_29 ?_
        refine j_sipush dX0_type_30 (by decide) ?_
        refine j_icmp_le (w32 (x1 + v3)) 4000 rfl rfl 39 dX0_type_33 (by decide) (fun h4 => ?_) (fun h4 => ?_)
        · replace hf := it h4 hf
          refine j_iload_n dX0_type_39 2 rfl ?_
          refine j_iconst dX0_type_40 ?_
          refine j_isub dX0_type_41 ?_
          refine j_istore dX0_type_42 [(4, pI (v3 - 1)), (0, pR v0), (1, pL v1), (3, pI v3)] (Nat.le_of_ble_eq_true rfl) rfl ?_
          refine j_sub [1, 2, 0] _ rfl (t0_type_l44 v0 v1 ?_ NN (v3 - 1) u hf)
          · intro q2 hf
            refine j_aload_n dX0_type_80 0 rfl ?_
            obtain ⟨x3, hx3, hf⟩ := ob hf
            refine c_geti (ci := 0) (k := 2) hx3 zcl_0 (Nat.le_of_ble_eq_true rfl) zf_X0_164 fk_2 dX0_type_81 ?_
            replace hf := Option.some.inj hf
            subst hf
            exact j_ireturn (bC_mv G A) ⟨Nat.le_refl 0, Nat.le_refl 0⟩ rfl dX0_type_84
        · replace hf := ie h4 hf
          refine j_bipush dX0_type_36 (by decide) ?_
          replace hf := Option.some.inj hf
          subst hf
          exact j_ireturn (bC_mv G A) ⟨Nat.le_refl 0, Nat.le_refl 0⟩ rfl dX0_type_38
      · replace hf := it h6 hf
        refine j_aload_n dX0_type_17 0 rfl ?_
        refine j_iconst dX0_type_18 ?_
        obtain ⟨u5, hu5, hf⟩ := ob hf
        refine c_puti (ci := 0) (k := 2) hu5 zcl_0 (Nat.le_of_ble_eq_true rfl) zf_X0_164 fk_2 rfl fits_I dX0_type_19 ?_
        refine j_iconst dX0_type_22 ?_
        replace hf := Option.some.inj hf
        subst hf
        exact j_ireturn (bC_mv G A) ⟨Nat.le_refl 0, Nat.le_refl 0⟩ rfl dX0_type_23
    · replace hf := ie h7 hf
      refine j_bipush dX0_type_10 (by decide) ?_
      replace hf := Option.some.inj hf
      subst hf
      exact j_ireturn (bC_mv G A) ⟨Nat.le_refl 0, Nat.le_refl 0⟩ rfl dX0_type_12
theorem t0_place {G : CG} {A : Nat → Prop} {l : Launch} {r : Int} (v0 : Option Nat) (u : Sg) (hf : f0_place G v0 u = some r) : JM kC (bC G A) A l yX0_place D0_place [pR v0] u (some (pI r)) u 0 0 := by
  refine j_met (lv0 := [(0, pR v0)]) ⟨pl_X0, rfl, rfl, (Nat.le_of_ble_eq_true rfl), rfl⟩ ?_
  unfold f0_place at hf
  refine j_aload_n dX0_place_0 0 rfl ?_
  obtain ⟨x1, hx1, hf⟩ := ob hf
  refine c_geti (ci := 0) (k := 3) hx1 zcl_0 (Nat.le_of_ble_eq_true rfl) zf_X0_75 fk_3 dX0_place_1 ?_
  replace hf := Option.some.inj hf
  subst hf
  exact j_ireturn (bC_mv G A) ⟨Nat.le_refl 0, Nat.le_refl 0⟩ rfl dX0_place_4
theorem t0_failed {G : CG} {A : Nat → Prop} {l : Launch} {r : Int × Sg} (v0 : Option Nat) (v1 : Option Nat) (u : Sg) (hf : f0_failed G v0 v1 u = some r) : JM kC (bC G A) A l yX0_failed D0_failed [pR v0, pR v1] u (some (pI r.1)) r.2 0 0 := by
  refine j_met (lv0 := [(0, pR v0), (1, pR v1)]) ⟨pl_X0, rfl, rfl, (Nat.le_of_ble_eq_true rfl), rfl⟩ ?_
  unfold f0_failed at hf
  refine j_aload_n dX0_failed_0 0 rfl ?_
  refine j_aload_n dX0_failed_1 1 rfl ?_
  obtain ⟨x1, hx1, hf⟩ := ob hf
  refine c_getiN (ci := 8) (k := 7) hx1 zcl_8 (Nat.le_of_ble_eq_true rfl) zf_X0_167 fk_327 dX0_failed_2 ?_
  obtain ⟨u2, hu2, hf⟩ := ob hf
  refine c_puti (ci := 0) (k := 3) hu2 zcl_0 (Nat.le_of_ble_eq_true rfl) zf_X0_75 fk_3 rfl fits_I dX0_failed_5 ?_
  refine j_bipush dX0_failed_8 (by decide) ?_
  refine j_aload_n dX0_failed_10 1 rfl ?_
  obtain ⟨x3, hx3, hf⟩ := ob hf
  refine c_getiN (ci := 8) (k := 6) hx3 zcl_8 (Nat.le_of_ble_eq_true rfl) zf_X0_172 fk_326 dX0_failed_11 ?_
  refine j_isub dX0_failed_14 ?_
  replace hf := Option.some.inj hf
  subst hf
  exact j_ireturn (bC_mv G A) ⟨Nat.le_refl 0, Nat.le_refl 0⟩ rfl dX0_failed_15
theorem t8_init {G : CG} {A : Nat → Prop} {l : Launch} (hfl : l.stackTraces = false) {r : Sg} (v0 : Option Nat) (v1 : Int) (v2 : Int) (u : Sg) (hf : f8_init G v0 v1 v2 u = some r) : JM kC (bC G A) A l yX8_init D8_init [pR v0, pI v1, pI v2] u none r 0 0 := by
  refine j_met (lv0 := [(0, pR v0), (1, pI v1), (2, pI v2)]) ⟨pl_X8, rfl, rfl, (Nat.le_of_ble_eq_true rfl), rfl⟩ ?_
  unfold f8_init at hf
  refine j_aload_n dX8_init_0 0 rfl ?_
  obtain ⟨b1, eb1, hg⟩ := ob hf
  clear hf
  subst eb1
  have hf := hg
  clear hg
  obtain ⟨u2, hu2, hf⟩ := ob hf
  refine c_rteInit hfl hu2 q709 (Nat.le_of_ble_eq_true rfl) (Nat.le_of_ble_eq_true rfl) (Nat.le_of_ble_eq_true rfl) dX8_init_1 ?_
  refine j_aload_n dX8_init_4 0 rfl ?_
  refine j_iload_n dX8_init_5 1 rfl ?_
  obtain ⟨u3, hu3, hf⟩ := ob hf
  refine c_putiF (ci := 8) (k := 6) hu3 zcl_8 (Nat.le_of_ble_eq_true rfl) zf_X8_7 fk_326 rfl rfl rfl fits_I dX8_init_6 ?_
  refine j_aload_n dX8_init_9 0 rfl ?_
  refine j_iload_n dX8_init_10 2 rfl ?_
  obtain ⟨u4, hu4, hf⟩ := ob hf
  refine c_putiF (ci := 8) (k := 7) hu4 zcl_8 (Nat.le_of_ble_eq_true rfl) zf_X8_13 fk_327 rfl rfl rfl fits_I dX8_init_11 ?_
  replace hf := Option.some.inj hf
  subst hf
  exact j_return (bC_mv G A) ⟨Nat.le_refl 0, Nat.le_refl 0⟩ rfl dX8_init_14
theorem t11_isTrue {G : CG} {A : Nat → Prop} {l : Launch} {d : Nat} (rc : Option Nat → Option Nat → Sg → Option Int) (hrc : ∀ (r9 : Option Nat) (y0 : Option Nat) (u9 : Sg) (v9 : Int), rc r9 y0 u9 = some v9 → VD G A l xv_isTrue (20 + d) (300 + 40 * d) r9 [pR y0] u9 (some (pI v9)) u9) {r : Int} (v0 : Option Nat) (v1 : Option Nat) (u : Sg) (hf : f11_isTrue G rc v0 v1 u = some r) : JM kC (bC G A) A l yX11_isTrue (D11_isTrue d) [pR v0, pR v1] u (some (pI r)) u 0 0 := by
  refine j_met (lv0 := [(0, pR v0), (1, pR v1)]) ⟨pl_X11, rfl, rfl, (Nat.le_of_ble_eq_true rfl), rfl⟩ ?_
  unfold f11_isTrue at hf
  refine j_aload_n dX11_isTrue_0 0 rfl ?_
  obtain ⟨x1, hx1, hf⟩ := ob hf
  refine c_geta (ci := 11) (k := 0) hx1 zcl_11 (Nat.le_of_ble_eq_true rfl) zf_X11_7 fk_440 dX11_isTrue_1 ?_
  refine j_aload_n dX11_isTrue_4 1 rfl ?_
  obtain ⟨x2, hx2, hf⟩ := ob hf
  refine (hrc x1 v1 u x2 hx2) _ _ _ _ _ _ _ _ _ _ [] _ [pI x2] q1250 (by show _ ≤ 21 + d; omega) (by show _ ≤ 300 + 40 * d; omega) rfl rfl (Nat.le_of_ble_eq_true rfl) dX11_isTrue_5 ⟨Nat.le_refl 0, Nat.le_refl 0⟩ ?_
  refine j_if_ne (w32 x2) rfl 15 dX11_isTrue_8 (by decide) (fun h3 => ?_) (fun h3 => ?_)
  · replace hf := ie h3 hf
    refine j_iconst dX11_isTrue_15 ?_
    replace hf := Option.some.inj hf
    subst hf
    exact j_zreturn (x := 0) (bC_mv G A) ⟨Nat.le_refl 0, Nat.le_refl 0⟩ (ty := .boolean) rfl (nar_z (Or.inl rfl)) dX11_isTrue_16
  · replace hf := it h3 hf
    refine j_iconst dX11_isTrue_11 ?_
    refine j_goto 16 dX11_isTrue_12 (by decide) ?_
    replace hf := Option.some.inj hf
    subst hf
    exact j_zreturn (x := 1) (bC_mv G A) ⟨Nat.le_refl 0, Nat.le_refl 0⟩ (ty := .boolean) rfl (nar_z (Or.inr rfl)) dX11_isTrue_16
theorem t12_isTrue {G : CG} {A : Nat → Prop} {l : Launch} {r : Int} (v0 : Option Nat) (v1 : Option Nat) (u : Sg) (hf : f12_isTrue G v0 v1 u = some r) : JM kC (bC G A) A l yX12_isTrue D12_isTrue [pR v0, pR v1] u (some (pI r)) u 0 0 := by
  refine j_met (lv0 := [(0, pR v0), (1, pR v1)]) ⟨pl_X12, rfl, rfl, (Nat.le_of_ble_eq_true rfl), rfl⟩ ?_
  unfold f12_isTrue at hf
  refine j_aload_n dX12_isTrue_0 1 rfl ?_
  obtain ⟨x1, hx1, hf⟩ := ob hf
  refine c_getaN (ci := 1) (k := 1) hx1 zcl_1 (Nat.le_of_ble_eq_true rfl) zf_X12_13 fk_41 dX12_isTrue_1 ?_
  refine j_aload_n dX12_isTrue_4 0 rfl ?_
  obtain ⟨x2, hx2, hf⟩ := ob hf
  refine c_geti (ci := 12) (k := 0) hx2 zcl_12 (Nat.le_of_ble_eq_true rfl) zf_X12_7 fk_480 dX12_isTrue_5 ?_
  obtain ⟨x3, hx3, hf⟩ := ob hf
  refine c_zald hx3 dX12_isTrue_8 ?_
  rcases Decidable.em (w32 x3 = 0 ∨ w32 x3 = 1) with h4 | h4
  · replace hf := it h4 hf
    replace hf := Option.some.inj hf
    subst hf
    exact j_zreturn (x := x3) (bC_mv G A) ⟨Nat.le_refl 0, Nat.le_refl 0⟩ (ty := .boolean) rfl (nar_z h4) dX12_isTrue_9
  · exact onn (ie h4 hf)
theorem t13_isTrue_b21 {G : CG} {A : Nat → Prop} {l : Launch} {a : List PV} {r : Int} (v0 : Option Nat) (s0 : Int) (u : Sg) (hf : f13_isTrue_b21 G v0 s0 u = some r) : JW kC (bC G A) A l D13_isTrue a (jQ (bC G A) A a (some (pI r)) u 0 0) 0 0 u 0 0 21 [(0, pR v0)] [pI s0] := by
  unfold f13_isTrue_b21 at hf
  refine j_aload_n dX13_isTrue_21 0 rfl ?_
  obtain ⟨x1, hx1, hf⟩ := ob hf
  refine c_geti (ci := 13) (k := 2) hx1 zcl_13 (Nat.le_of_ble_eq_true rfl) zf_X13_16 fk_522 dX13_isTrue_22 ?_
  refine j_icmp_eq (w32 s0) (w32 x1) rfl rfl 32 dX13_isTrue_25 (by decide) (fun h2 => ?_) (fun h2 => ?_)
  · replace hf := it h2 hf
    refine j_iconst dX13_isTrue_32 ?_
    replace hf := Option.some.inj hf
    subst hf
    exact j_zreturn (x := 0) (bC_mv G A) ⟨Nat.le_refl 0, Nat.le_refl 0⟩ (ty := .boolean) rfl (nar_z (Or.inl rfl)) dX13_isTrue_33
  · replace hf := ie h2 hf
    refine j_iconst dX13_isTrue_28 ?_
    refine j_goto 33 dX13_isTrue_29 (by decide) ?_
    replace hf := Option.some.inj hf
    subst hf
    exact j_zreturn (x := 1) (bC_mv G A) ⟨Nat.le_refl 0, Nat.le_refl 0⟩ (ty := .boolean) rfl (nar_z (Or.inr rfl)) dX13_isTrue_33
theorem t13_isTrue {G : CG} {A : Nat → Prop} {l : Launch} {r : Int} (v0 : Option Nat) (v1 : Option Nat) (u : Sg) (hf : f13_isTrue G v0 v1 u = some r) : JM kC (bC G A) A l yX13_isTrue D13_isTrue [pR v0, pR v1] u (some (pI r)) u 0 0 := by
  refine j_met (lv0 := [(0, pR v0), (1, pR v1)]) ⟨pl_X13, rfl, rfl, (Nat.le_of_ble_eq_true rfl), rfl⟩ ?_
  unfold f13_isTrue at hf
  refine j_aload_n dX13_isTrue_0 1 rfl ?_
  obtain ⟨x1, hx1, hf⟩ := ob hf
  refine c_getaN (ci := 1) (k := 0) hx1 zcl_1 (Nat.le_of_ble_eq_true rfl) zf_X13_20 fk_40 dX13_isTrue_1 ?_
  refine j_aload_n dX13_isTrue_4 0 rfl ?_
  obtain ⟨x2, hx2, hf⟩ := ob hf
  refine c_geti (ci := 13) (k := 0) hx2 zcl_13 (Nat.le_of_ble_eq_true rfl) zf_X13_7 fk_520 dX13_isTrue_5 ?_
  obtain ⟨x3, hx3, hf⟩ := ob hf
  refine c_iald hx3 dX13_isTrue_8 ?_
  refine j_aload_n dX13_isTrue_9 0 rfl ?_
  obtain ⟨x4, hx4, hf⟩ := ob hf
  refine c_geti (ci := 13) (k := 1) hx4 zcl_13 (Nat.le_of_ble_eq_true rfl) zf_X13_13 fk_521 dX13_isTrue_10 ?_
  refine j_icmp_ne (w32 x3) (w32 x4) rfl rfl 20 dX13_isTrue_13 (by decide) (fun h5 => ?_) (fun h5 => ?_)
  · replace hf := ie h5 hf
    refine j_iconst dX13_isTrue_20 ?_
    exact j_sub [0] _ rfl (t13_isTrue_b21 v0 0 u hf)
  · replace hf := it h5 hf
    refine j_iconst dX13_isTrue_16 ?_
    refine j_goto 21 dX13_isTrue_17 (by decide) ?_
    exact j_sub [0] _ rfl (t13_isTrue_b21 v0 1 u hf)
theorem t22_holds {G : CG} {A : Nat → Prop} {l : Launch} {r : Int} (v0 : Option Nat) (v1 : Int) (v2 : Int) (u : Sg) (hf : f22_holds G v0 v1 v2 u = some r) : JM kC (bC G A) A l yX22_holds D22_holds [pR v0, pI v1, pI v2] u (some (pI r)) u 0 0 := by
  refine j_met (lv0 := [(0, pR v0), (1, pI v1), (2, pI v2)]) ⟨pl_X22, rfl, rfl, (Nat.le_of_ble_eq_true rfl), rfl⟩ ?_
  unfold f22_holds at hf
  refine j_iload_n dX22_holds_0 1 rfl ?_
  refine j_iload_n dX22_holds_1 2 rfl ?_
  refine j_icmp_ne (w32 v1) (w32 v2) rfl rfl 9 dX22_holds_2 (by decide) (fun h1 => ?_) (fun h1 => ?_)
  · replace hf := ie h1 hf
    refine j_iconst dX22_holds_9 ?_
    replace hf := Option.some.inj hf
    subst hf
    exact j_zreturn (x := 0) (bC_mv G A) ⟨Nat.le_refl 0, Nat.le_refl 0⟩ (ty := .boolean) rfl (nar_z (Or.inl rfl)) dX22_holds_10
  · replace hf := it h1 hf
    refine j_iconst dX22_holds_5 ?_
    refine j_goto 10 dX22_holds_6 (by decide) ?_
    replace hf := Option.some.inj hf
    subst hf
    exact j_zreturn (x := 1) (bC_mv G A) ⟨Nat.le_refl 0, Nat.le_refl 0⟩ (ty := .boolean) rfl (nar_z (Or.inr rfl)) dX22_holds_10
theorem t23_holds {G : CG} {A : Nat → Prop} {l : Launch} {r : Int} (v0 : Option Nat) (v1 : Int) (v2 : Int) (u : Sg) (hf : f23_holds G v0 v1 v2 u = some r) : JM kC (bC G A) A l yX23_holds D23_holds [pR v0, pI v1, pI v2] u (some (pI r)) u 0 0 := by
  refine j_met (lv0 := [(0, pR v0), (1, pI v1), (2, pI v2)]) ⟨pl_X23, rfl, rfl, (Nat.le_of_ble_eq_true rfl), rfl⟩ ?_
  unfold f23_holds at hf
  refine j_iload_n dX23_holds_0 1 rfl ?_
  refine j_iload_n dX23_holds_1 2 rfl ?_
  refine j_icmp_ge (w32 v1) (w32 v2) rfl rfl 9 dX23_holds_2 (by decide) (fun h1 => ?_) (fun h1 => ?_)
  · replace hf := it h1 hf
    refine j_iconst dX23_holds_9 ?_
    replace hf := Option.some.inj hf
    subst hf
    exact j_zreturn (x := 0) (bC_mv G A) ⟨Nat.le_refl 0, Nat.le_refl 0⟩ (ty := .boolean) rfl (nar_z (Or.inl rfl)) dX23_holds_10
  · replace hf := ie h1 hf
    refine j_iconst dX23_holds_5 ?_
    refine j_goto 10 dX23_holds_6 (by decide) ?_
    replace hf := Option.some.inj hf
    subst hf
    exact j_zreturn (x := 1) (bC_mv G A) ⟨Nat.le_refl 0, Nat.le_refl 0⟩ (ty := .boolean) rfl (nar_z (Or.inr rfl)) dX23_holds_10
theorem t24_holds {G : CG} {A : Nat → Prop} {l : Launch} {r : Int} (v0 : Option Nat) (v1 : Int) (v2 : Int) (u : Sg) (hf : f24_holds G v0 v1 v2 u = some r) : JM kC (bC G A) A l yX24_holds D24_holds [pR v0, pI v1, pI v2] u (some (pI r)) u 0 0 := by
  refine j_met (lv0 := [(0, pR v0), (1, pI v1), (2, pI v2)]) ⟨pl_X24, rfl, rfl, (Nat.le_of_ble_eq_true rfl), rfl⟩ ?_
  unfold f24_holds at hf
  refine j_iload_n dX24_holds_0 1 rfl ?_
  refine j_iload_n dX24_holds_1 2 rfl ?_
  refine j_icmp_le (w32 v1) (w32 v2) rfl rfl 9 dX24_holds_2 (by decide) (fun h1 => ?_) (fun h1 => ?_)
  · replace hf := it h1 hf
    refine j_iconst dX24_holds_9 ?_
    replace hf := Option.some.inj hf
    subst hf
    exact j_zreturn (x := 0) (bC_mv G A) ⟨Nat.le_refl 0, Nat.le_refl 0⟩ (ty := .boolean) rfl (nar_z (Or.inl rfl)) dX24_holds_10
  · replace hf := ie h1 hf
    refine j_iconst dX24_holds_5 ?_
    refine j_goto 10 dX24_holds_6 (by decide) ?_
    replace hf := Option.some.inj hf
    subst hf
    exact j_zreturn (x := 1) (bC_mv G A) ⟨Nat.le_refl 0, Nat.le_refl 0⟩ (ty := .boolean) rfl (nar_z (Or.inr rfl)) dX24_holds_10
theorem t25_holds {G : CG} {A : Nat → Prop} {l : Launch} {r : Int} (v0 : Option Nat) (v1 : Int) (v2 : Int) (u : Sg) (hf : f25_holds G v0 v1 v2 u = some r) : JM kC (bC G A) A l yX25_holds D25_holds [pR v0, pI v1, pI v2] u (some (pI r)) u 0 0 := by
  refine j_met (lv0 := [(0, pR v0), (1, pI v1), (2, pI v2)]) ⟨pl_X25, rfl, rfl, (Nat.le_of_ble_eq_true rfl), rfl⟩ ?_
  unfold f25_holds at hf
  refine j_iload_n dX25_holds_0 1 rfl ?_
  refine j_iload_n dX25_holds_1 2 rfl ?_
  refine j_icmp_gt (w32 v1) (w32 v2) rfl rfl 9 dX25_holds_2 (by decide) (fun h1 => ?_) (fun h1 => ?_)
  · replace hf := it h1 hf
    refine j_iconst dX25_holds_9 ?_
    replace hf := Option.some.inj hf
    subst hf
    exact j_zreturn (x := 0) (bC_mv G A) ⟨Nat.le_refl 0, Nat.le_refl 0⟩ (ty := .boolean) rfl (nar_z (Or.inl rfl)) dX25_holds_10
  · replace hf := ie h1 hf
    refine j_iconst dX25_holds_5 ?_
    refine j_goto 10 dX25_holds_6 (by decide) ?_
    replace hf := Option.some.inj hf
    subst hf
    exact j_zreturn (x := 1) (bC_mv G A) ⟨Nat.le_refl 0, Nat.le_refl 0⟩ (ty := .boolean) rfl (nar_z (Or.inr rfl)) dX25_holds_10
theorem t26_holds {G : CG} {A : Nat → Prop} {l : Launch} {r : Int} (v0 : Option Nat) (v1 : Int) (v2 : Int) (u : Sg) (hf : f26_holds G v0 v1 v2 u = some r) : JM kC (bC G A) A l yX26_holds D26_holds [pR v0, pI v1, pI v2] u (some (pI r)) u 0 0 := by
  refine j_met (lv0 := [(0, pR v0), (1, pI v1), (2, pI v2)]) ⟨pl_X26, rfl, rfl, (Nat.le_of_ble_eq_true rfl), rfl⟩ ?_
  unfold f26_holds at hf
  refine j_iload_n dX26_holds_0 1 rfl ?_
  refine j_iload_n dX26_holds_1 2 rfl ?_
  refine j_icmp_lt (w32 v1) (w32 v2) rfl rfl 9 dX26_holds_2 (by decide) (fun h1 => ?_) (fun h1 => ?_)
  · replace hf := it h1 hf
    refine j_iconst dX26_holds_9 ?_
    replace hf := Option.some.inj hf
    subst hf
    exact j_zreturn (x := 0) (bC_mv G A) ⟨Nat.le_refl 0, Nat.le_refl 0⟩ (ty := .boolean) rfl (nar_z (Or.inl rfl)) dX26_holds_10
  · replace hf := ie h1 hf
    refine j_iconst dX26_holds_5 ?_
    refine j_goto 10 dX26_holds_6 (by decide) ?_
    replace hf := Option.some.inj hf
    subst hf
    exact j_zreturn (x := 1) (bC_mv G A) ⟨Nat.le_refl 0, Nat.le_refl 0⟩ (ty := .boolean) rfl (nar_z (Or.inr rfl)) dX26_holds_10
theorem t27_holds {G : CG} {A : Nat → Prop} {l : Launch} {r : Int} (v0 : Option Nat) (v1 : Int) (v2 : Int) (u : Sg) (hf : f27_holds G v0 v1 v2 u = some r) : JM kC (bC G A) A l yX27_holds D27_holds [pR v0, pI v1, pI v2] u (some (pI r)) u 0 0 := by
  refine j_met (lv0 := [(0, pR v0), (1, pI v1), (2, pI v2)]) ⟨pl_X27, rfl, rfl, (Nat.le_of_ble_eq_true rfl), rfl⟩ ?_
  unfold f27_holds at hf
  refine j_iload_n dX27_holds_0 1 rfl ?_
  refine j_iload_n dX27_holds_1 2 rfl ?_
  refine j_icmp_eq (w32 v1) (w32 v2) rfl rfl 9 dX27_holds_2 (by decide) (fun h1 => ?_) (fun h1 => ?_)
  · replace hf := it h1 hf
    refine j_iconst dX27_holds_9 ?_
    replace hf := Option.some.inj hf
    subst hf
    exact j_zreturn (x := 0) (bC_mv G A) ⟨Nat.le_refl 0, Nat.le_refl 0⟩ (ty := .boolean) rfl (nar_z (Or.inl rfl)) dX27_holds_10
  · replace hf := ie h1 hf
    refine j_iconst dX27_holds_5 ?_
    refine j_goto 10 dX27_holds_6 (by decide) ?_
    replace hf := Option.some.inj hf
    subst hf
    exact j_zreturn (x := 1) (bC_mv G A) ⟨Nat.le_refl 0, Nat.le_refl 0⟩ (ty := .boolean) rfl (nar_z (Or.inr rfl)) dX27_holds_10
theorem tv_holds {G : CG} {A : Nat → Prop} {l : Launch} (r : Option Nat) (y0 : Int) (y1 : Int) (u : Sg) (v : Int) (h : kv_holds G r y0 y1 u = some v) : VD G A l xv_holds 20 300 r [pI y0, pI y1] u (some (pI v)) u := by
  unfold kv_holds at h
  obtain ⟨b, hb, h2⟩ := ob h
  clear h
  subst hb
  rcases Decidable.em (zT u b = 23) with ht | ht
  · replace h2 := it ht h2
    cases h2
    exact vd_inl y0 y1 (e_recv (k := 0) ht (by decide)) dxv_holds q1229 q1230 q1231 q1232 q1228 (by decide) ⟨dX22_holds_0, dX22_holds_1, dX22_holds_2, dX22_holds_5, dX22_holds_6, dX22_holds_9, dX22_holds_10⟩
  replace h2 := ie ht h2
  rcases Decidable.em (zT u b = 24) with ht | ht
  · replace h2 := it ht h2
    cases h2
    exact vd_inl y0 y1 (e_recv (k := 1) ht (by decide)) dxv_holds q1229 q1233 q1234 q1235 q1228 (by decide) ⟨dX23_holds_0, dX23_holds_1, dX23_holds_2, dX23_holds_5, dX23_holds_6, dX23_holds_9, dX23_holds_10⟩
  replace h2 := ie ht h2
  rcases Decidable.em (zT u b = 25) with ht | ht
  · replace h2 := it ht h2
    cases h2
    exact vd_inl y0 y1 (e_recv (k := 2) ht (by decide)) dxv_holds q1229 q1236 q1237 q1238 q1228 (by decide) ⟨dX24_holds_0, dX24_holds_1, dX24_holds_2, dX24_holds_5, dX24_holds_6, dX24_holds_9, dX24_holds_10⟩
  replace h2 := ie ht h2
  rcases Decidable.em (zT u b = 26) with ht | ht
  · replace h2 := it ht h2
    cases h2
    exact vd_inl y0 y1 (e_recv (k := 3) ht (by decide)) dxv_holds q1229 q1239 q1240 q1241 q1228 (by decide) ⟨dX25_holds_0, dX25_holds_1, dX25_holds_2, dX25_holds_5, dX25_holds_6, dX25_holds_9, dX25_holds_10⟩
  replace h2 := ie ht h2
  rcases Decidable.em (zT u b = 27) with ht | ht
  · replace h2 := it ht h2
    cases h2
    exact vd_inl y0 y1 (e_recv (k := 4) ht (by decide)) dxv_holds q1229 q1242 q1243 q1244 q1228 (by decide) ⟨dX26_holds_0, dX26_holds_1, dX26_holds_2, dX26_holds_5, dX26_holds_6, dX26_holds_9, dX26_holds_10⟩
  replace h2 := ie ht h2
  rcases Decidable.em (zT u b = 28) with ht | ht
  · replace h2 := it ht h2
    cases h2
    exact vd_inl y0 y1 (e_recv (k := 5) ht (by decide)) dxv_holds q1229 q1245 q1246 q1247 q1228 (by decide) ⟨dX27_holds_0, dX27_holds_1, dX27_holds_2, dX27_holds_5, dX27_holds_6, dX27_holds_9, dX27_holds_10⟩
  replace h2 := ie ht h2
  cases h2
theorem t14_isTrue {G : CG} {A : Nat → Prop} {l : Launch} {r : Int} (v0 : Option Nat) (v1 : Option Nat) (u : Sg) (hf : f14_isTrue G v0 v1 u = some r) : JM kC (bC G A) A l yX14_isTrue D14_isTrue [pR v0, pR v1] u (some (pI r)) u 0 0 := by
  refine j_met (lv0 := [(0, pR v0), (1, pR v1)]) ⟨pl_X14, rfl, rfl, (Nat.le_of_ble_eq_true rfl), rfl⟩ ?_
  unfold f14_isTrue at hf
  refine j_aload_n dX14_isTrue_0 0 rfl ?_
  obtain ⟨x1, hx1, hf⟩ := ob hf
  refine c_geta (ci := 14) (k := 1) hx1 zcl_14 (Nat.le_of_ble_eq_true rfl) zf_X14_13 fk_561 dX14_isTrue_1 ?_
  refine j_aload_n dX14_isTrue_4 1 rfl ?_
  obtain ⟨x2, hx2, hf⟩ := ob hf
  refine c_getaN (ci := 1) (k := 0) hx2 zcl_1 (Nat.le_of_ble_eq_true rfl) zf_X14_20 fk_40 dX14_isTrue_5 ?_
  refine j_aload_n dX14_isTrue_8 0 rfl ?_
  obtain ⟨x3, hx3, hf⟩ := ob hf
  refine c_geti (ci := 14) (k := 0) hx3 zcl_14 (Nat.le_of_ble_eq_true rfl) zf_X14_7 fk_560 dX14_isTrue_9 ?_
  obtain ⟨x4, hx4, hf⟩ := ob hf
  refine c_iald hx4 dX14_isTrue_12 ?_
  refine j_aload_n dX14_isTrue_13 0 rfl ?_
  obtain ⟨x5, hx5, hf⟩ := ob hf
  refine c_geti (ci := 14) (k := 2) hx5 zcl_14 (Nat.le_of_ble_eq_true rfl) zf_X14_17 fk_562 dX14_isTrue_14 ?_
  obtain ⟨x6, hx6, hf⟩ := ob hf
  refine (tv_holds x1 x4 x5 u x6 hx6) _ _ _ _ _ _ _ _ _ _ [] _ [pI x6] q1227 (Nat.le_of_ble_eq_true rfl) (Nat.le_of_ble_eq_true rfl) rfl rfl (Nat.le_of_ble_eq_true rfl) dX14_isTrue_17 ⟨Nat.le_refl 0, Nat.le_refl 0⟩ ?_
  rcases Decidable.em (w32 x6 = 0 ∨ w32 x6 = 1) with h7 | h7
  · replace hf := it h7 hf
    replace hf := Option.some.inj hf
    subst hf
    exact j_zreturn (x := x6) (bC_mv G A) ⟨Nat.le_refl 0, Nat.le_refl 0⟩ (ty := .boolean) rfl (nar_z h7) dX14_isTrue_20
  · exact onn (ie h7 hf)
theorem t15_isTrue_l2 {G : CG} {A : Nat → Prop} {l : Launch} {a : List PV} {d : Nat} (rc : Option Nat → Option Nat → Sg → Option Int) (hrc : ∀ (r9 : Option Nat) (y0 : Option Nat) (u9 : Sg) (v9 : Int), rc r9 y0 u9 = some v9 → VD G A l xv_isTrue (20 + d) (300 + 40 * d) r9 [pR y0] u9 (some (pI v9)) u9) {r : Int} {Kf : (Unit) ⊕ (Unit) → Option (Int)} (v0 : Option Nat) (v1 : Option Nat) (u : Sg) (hK0 : ∀ q : Unit, Kf (.inl q) = some r → JW kC (bC G A) A l (D15_isTrue d) a (jQ (bC G A) A a (some (pI r)) u 0 0) 0 0 u 0 0 39 [(0, pR v0)] []) (hK1 : ∀ q : Unit, Kf (.inr q) = some r → JW kC (bC G A) A l (D15_isTrue d) a (jQ (bC G A) A a (some (pI r)) u 0 0) 0 0 u 0 0 50 [(0, pR v0)] []) : ∀ (n : Nat) (v2 : Int), ((f15_isTrue_l2 G rc v0 v1 u n v2).bind Kf = some r) → JW kC (bC G A) A l (D15_isTrue d) a (jQ (bC G A) A a (some (pI r)) u 0 0) 0 0 u 0 0 2 [(0, pR v0), (1, pR v1), (2, pI v2)] [] := by
  intro n
  induction n with
  | zero => intro v2 hf; exact onb hf
  | succ n ih =>
    intro v2 hf
    unfold f15_isTrue_l2 at hf
    refine j_iload_n dX15_isTrue_2 2 rfl ?_
    refine j_aload_n dX15_isTrue_3 0 rfl ?_
    obtain ⟨x1, hx1, hf⟩ := obb hf
    refine c_geta (ci := 15) (k := 1) hx1 zcl_15 (Nat.le_of_ble_eq_true rfl) zf_X15_10 fk_601 dX15_isTrue_4 ?_
    obtain ⟨b2, hb2, hf⟩ := obb hf
    obtain ⟨eb2, tb2⟩ := ztg_s hb2
    obtain ⟨x3, hx3, hf⟩ := obb hf
    refine a_Fr (x := ix_0) [] [pI v2] (tJ2_size (some b2) u hx3) ⟨q1159, q559, q561, q131, q563⟩ iF_0 df_0 rfl ⟨by show 0 + 1 ≤ 21 + d; omega, by show 8 + (1 + 11) + 0 ≤ 300 + 40 * d; omega⟩ zcl_5 rfl tb2 (by rw [← eb2]; rfl) (Nat.le_of_ble_eq_true rfl) dX15_isTrue_7 ⟨Nat.le_refl 0, Nat.le_refl 0⟩ ?_
    refine j_icmp_ge (w32 v2) (w32 x3) rfl rfl 50 dX15_isTrue_12 (by decide) (fun h11 => ?_) (fun h11 => ?_)
    · replace hf := itb h11 hf
      exact j_sub [0] _ rfl (hK1 () hf)
    · replace hf := ieb h11 hf
      refine j_aload_n dX15_isTrue_15 0 rfl ?_
      obtain ⟨x4, hx4, hf⟩ := obb hf
      refine c_geta (ci := 15) (k := 1) hx4 zcl_15 (Nat.le_of_ble_eq_true rfl) zf_X15_10 fk_601 dX15_isTrue_16 ?_
      refine j_iload_n dX15_isTrue_19 2 rfl ?_
      obtain ⟨b5, hb5, hf⟩ := obb hf
      obtain ⟨eb5, tb5⟩ := ztg_s hb5
      obtain ⟨x6, hx6, hf⟩ := obb hf
      refine a_Fr (x := ix_1) [pI v2] [] (tJ2_get (some b5) v2 u hx6) ⟨q1161, q813, q815, q131, q817⟩ iF_1 df_1 rfl ⟨by show 2 + 1 ≤ 21 + d; omega, by show 8 + (2 + 11) + 43 ≤ 300 + 40 * d; omega⟩ zcl_5 rfl tb5 (by rw [← eb5]; rfl) (Nat.le_of_ble_eq_true rfl) dX15_isTrue_20 ⟨Nat.le_refl 0, Nat.le_refl 0⟩ ?_
      obtain ⟨y7, hy7, hf⟩ := obb hf
      refine c_cast hy7 zok_Cond q1162 dX15_isTrue_25 ?_
      refine j_aload_n dX15_isTrue_28 1 rfl ?_
      obtain ⟨x8, hx8, hf⟩ := obb hf
      refine (hrc x6 v1 u x8 hx8) _ _ _ _ _ _ _ _ _ _ [] _ [pI x8] q1222 (by show _ ≤ 21 + d; omega) (by show _ ≤ 300 + 40 * d; omega) rfl rfl (Nat.le_of_ble_eq_true rfl) dX15_isTrue_29 ⟨Nat.le_refl 0, Nat.le_refl 0⟩ ?_
      refine j_aload_n dX15_isTrue_32 0 rfl ?_
      obtain ⟨x9, hx9, hf⟩ := obb hf
      refine c_geti (ci := 15) (k := 0) hx9 zcl_15 (Nat.le_of_ble_eq_true rfl) zf_X15_16 fk_600 dX15_isTrue_33 ?_
      refine j_icmp_ne (w32 x8) (w32 x9) rfl rfl 44 dX15_isTrue_36 (by decide) (fun h10 => ?_) (fun h10 => ?_)
      · replace hf := ieb h10 hf
        refine j_iinc dX15_isTrue_44 2 rfl [(2, pI (v2 + 1)), (0, pR v0), (1, pR v1)] (Nat.le_of_ble_eq_true rfl) rfl ?_
        refine j_goto 2 dX15_isTrue_47 (by decide) ?_
        exact j_sub [1, 2, 0] _ rfl (ih (v2 + 1) hf)
      · replace hf := itb h10 hf
        exact j_sub [0] _ rfl (hK0 () hf)
theorem t15_isTrue {G : CG} {A : Nat → Prop} {l : Launch} {d : Nat} (rc : Option Nat → Option Nat → Sg → Option Int) (hrc : ∀ (r9 : Option Nat) (y0 : Option Nat) (u9 : Sg) (v9 : Int), rc r9 y0 u9 = some v9 → VD G A l xv_isTrue (20 + d) (300 + 40 * d) r9 [pR y0] u9 (some (pI v9)) u9) {r : Int} (v0 : Option Nat) (v1 : Option Nat) (u : Sg) (hf : f15_isTrue G rc v0 v1 u = some r) : JM kC (bC G A) A l yX15_isTrue (D15_isTrue d) [pR v0, pR v1] u (some (pI r)) u 0 0 := by
  refine j_met (lv0 := [(0, pR v0), (1, pR v1)]) ⟨pl_X15, rfl, rfl, (Nat.le_of_ble_eq_true rfl), rfl⟩ ?_
  unfold f15_isTrue at hf
  refine j_iconst dX15_isTrue_0 ?_
  refine j_istore_n dX15_isTrue_1 [(2, pI 0), (0, pR v0), (1, pR v1)] (Nat.le_of_ble_eq_true rfl) rfl ?_
  refine j_sub [1, 2, 0] _ rfl (t15_isTrue_l2 rc hrc v0 v1 u ?_ ?_ NN 0 hf)
  · intro q1 hf
    simp only [Sum.elim_inl, Sum.elim_inr] at hf
    refine j_aload_n dX15_isTrue_39 0 rfl ?_
    obtain ⟨x2, hx2, hf⟩ := ob hf
    refine c_geti (ci := 15) (k := 0) hx2 zcl_15 (Nat.le_of_ble_eq_true rfl) zf_X15_16 fk_600 dX15_isTrue_40 ?_
    rcases Decidable.em (w32 x2 = 0 ∨ w32 x2 = 1) with h3 | h3
    · replace hf := it h3 hf
      replace hf := Option.some.inj hf
      subst hf
      exact j_zreturn (x := x2) (bC_mv G A) ⟨Nat.le_refl 0, Nat.le_refl 0⟩ (ty := .boolean) rfl (nar_z h3) dX15_isTrue_43
    · exact onn (ie h3 hf)
  · intro q4 hf
    simp only [Sum.elim_inl, Sum.elim_inr] at hf
    refine j_aload_n dX15_isTrue_50 0 rfl ?_
    obtain ⟨x5, hx5, hf⟩ := ob hf
    refine c_geti (ci := 15) (k := 0) hx5 zcl_15 (Nat.le_of_ble_eq_true rfl) zf_X15_16 fk_600 dX15_isTrue_51 ?_
    refine j_if_ne (w32 x5) rfl 61 dX15_isTrue_54 (by decide) (fun h6 => ?_) (fun h6 => ?_)
    · replace hf := ie h6 hf
      refine j_iconst dX15_isTrue_61 ?_
      replace hf := Option.some.inj hf
      subst hf
      exact j_zreturn (x := 0) (bC_mv G A) ⟨Nat.le_refl 0, Nat.le_refl 0⟩ (ty := .boolean) rfl (nar_z (Or.inl rfl)) dX15_isTrue_62
    · replace hf := it h6 hf
      refine j_iconst dX15_isTrue_57 ?_
      refine j_goto 62 dX15_isTrue_58 (by decide) ?_
      replace hf := Option.some.inj hf
      subst hf
      exact j_zreturn (x := 1) (bC_mv G A) ⟨Nat.le_refl 0, Nat.le_refl 0⟩ (ty := .boolean) rfl (nar_z (Or.inr rfl)) dX15_isTrue_62
theorem tv_isTrue {G : CG} {A : Nat → Prop} {l : Launch} : ∀ (d : Nat) (r : Option Nat) (y0 : Option Nat) (u : Sg) (v : Int), kv_isTrue G d r y0 u = some v → VD G A l xv_isTrue (20 + d) (300 + 40 * d) r [pR y0] u (some (pI v)) u := by
  intro d
  induction d with
  | zero => intro r y0 u v h; cases h
  | succ d ih =>
    intro r y0 u v h
    unfold kv_isTrue at h
    obtain ⟨b, hb, h2⟩ := ob h
    clear h
    subst hb
    rcases Decidable.em (zT u b = 12) with ht | ht
    · replace h2 := it ht h2
      exact vd_abs (t11_isTrue (kv_isTrue G d) ih (some b) y0 u h2) rfl (by show 21 + d ≤ 20 + (d + 1); omega) (by show 8 + (2 + 11) + (300 + 40 * d) ≤ 300 + 40 * (d + 1); omega) (c_recv zcl_11 ht) dxv_isTrue q1215 q1253 q1248 q154 q1249 q1214
    replace h2 := ie ht h2
    rcases Decidable.em (zT u b = 13) with ht | ht
    · replace h2 := it ht h2
      exact vd_abs (t12_isTrue (some b) y0 u h2) rfl (by show 0 ≤ 20 + (d + 1); omega) (by show 8 + (2 + 11) + (0) ≤ 300 + 40 * (d + 1); omega) (c_recv zcl_12 ht) dxv_isTrue q1215 q1251 q1223 q155 q1224 q1214
    replace h2 := ie ht h2
    rcases Decidable.em (zT u b = 14) with ht | ht
    · replace h2 := it ht h2
      exact vd_abs (t13_isTrue (some b) y0 u h2) rfl (by show 0 ≤ 20 + (d + 1); omega) (by show 8 + (2 + 11) + (0) ≤ 300 + 40 * (d + 1); omega) (c_recv zcl_13 ht) dxv_isTrue q1215 q1216 q1217 q156 q1218 q1214
    replace h2 := ie ht h2
    rcases Decidable.em (zT u b = 15) with ht | ht
    · replace h2 := it ht h2
      exact vd_abs (t14_isTrue (some b) y0 u h2) rfl (by show 21 ≤ 20 + (d + 1); omega) (by show 8 + (2 + 11) + (300) ≤ 300 + 40 * (d + 1); omega) (c_recv zcl_14 ht) dxv_isTrue q1215 q1252 q1225 q159 q1226 q1214
    replace h2 := ie ht h2
    rcases Decidable.em (zT u b = 16) with ht | ht
    · replace h2 := it ht h2
      exact vd_abs (t15_isTrue (kv_isTrue G d) ih (some b) y0 u h2) rfl (by show 21 + d ≤ 20 + (d + 1); omega) (by show 8 + (3 + 11) + (300 + 40 * d) ≤ 300 + 40 * (d + 1); omega) (c_recv zcl_15 ht) dxv_isTrue q1215 q1219 q1220 q160 q1221 q1214
    replace h2 := ie ht h2
    cases h2
theorem t6_mean_l2 {G : CG} {A : Nat → Prop} {l : Launch} {a : List PV} {r : Sg} {Kf : Sg → Option (Sg)} (v0 : Option Nat) (v1 : Option Nat) (hK0 : ∀ q : Sg, Kf q = some r → JW kC (bC G A) A l D6_mean a (jQ (bC G A) A a none r 0 0) 0 0 q 0 0 44 [] []) : ∀ (n : Nat) (v2 : Int) (u : Sg), ((f6_mean_l2 G v0 v1 n v2 u).bind Kf = some r) → JW kC (bC G A) A l D6_mean a (jQ (bC G A) A a none r 0 0) 0 0 u 0 0 2 [(0, pR v0), (1, pR v1), (2, pI v2)] [] := by
  intro n
  induction n with
  | zero => intro v2 u hf; exact onb hf
  | succ n ih =>
    intro v2 u hf
    unfold f6_mean_l2 at hf
    refine j_iload_n dX6_mean_2 2 rfl ?_
    refine j_aload_n dX6_mean_3 0 rfl ?_
    obtain ⟨x1, hx1, hf⟩ := obb hf
    refine c_geta (ci := 6) (k := 2) hx1 zcl_6 (Nat.le_of_ble_eq_true rfl) zf_X6_21 fk_242 dX6_mean_4 ?_
    obtain ⟨b2, hb2, hf⟩ := obb hf
    obtain ⟨eb2, tb2⟩ := ztg_s hb2
    obtain ⟨x3, hx3, hf⟩ := obb hf
    refine a_Fr (x := ix_0) [] [pI v2] (tJ2_size (some b2) u hx3) ⟨q808, q559, q561, q131, q563⟩ iF_0 df_0 rfl ⟨(Nat.le_of_ble_eq_true rfl), (Nat.le_of_ble_eq_true rfl)⟩ zcl_5 rfl tb2 (by rw [← eb2]; rfl) (Nat.le_of_ble_eq_true rfl) dX6_mean_7 ⟨Nat.le_refl 0, Nat.le_refl 0⟩ ?_
    refine j_icmp_ge (w32 v2) (w32 x3) rfl rfl 44 dX6_mean_12 (by decide) (fun h11 => ?_) (fun h11 => ?_)
    · replace hf := itb h11 hf
      exact j_sub [] _ rfl (hK0 u hf)
    · replace hf := ieb h11 hf
      refine j_aload_n dX6_mean_15 1 rfl ?_
      obtain ⟨x4, hx4, hf⟩ := obb hf
      refine c_getaN (ci := 1) (k := 1) hx4 zcl_1 (Nat.le_of_ble_eq_true rfl) zf_X6_122 fk_41 dX6_mean_16 ?_
      refine j_iload_n dX6_mean_19 2 rfl ?_
      refine j_aload_n dX6_mean_20 0 rfl ?_
      obtain ⟨x5, hx5, hf⟩ := obb hf
      refine c_geta (ci := 6) (k := 2) hx5 zcl_6 (Nat.le_of_ble_eq_true rfl) zf_X6_21 fk_242 dX6_mean_21 ?_
      refine j_iload_n dX6_mean_24 2 rfl ?_
      obtain ⟨b6, hb6, hf⟩ := obb hf
      obtain ⟨eb6, tb6⟩ := ztg_s hb6
      obtain ⟨x7, hx7, hf⟩ := obb hf
      refine a_Fr (x := ix_1) [pI v2] [pI v2, pR x4] (tJ2_get (some b6) v2 u hx7) ⟨q810, q813, q815, q131, q817⟩ iF_1 df_1 rfl ⟨(Nat.le_of_ble_eq_true rfl), (Nat.le_of_ble_eq_true rfl)⟩ zcl_5 rfl tb6 (by rw [← eb6]; rfl) (Nat.le_of_ble_eq_true rfl) dX6_mean_25 ⟨Nat.le_refl 0, Nat.le_refl 0⟩ ?_
      obtain ⟨y8, hy8, hf⟩ := obb hf
      refine c_cast hy8 zok_Cond q1150 dX6_mean_30 ?_
      refine j_aload_n dX6_mean_33 1 rfl ?_
      obtain ⟨x9, hx9, hf⟩ := obb hf
      refine (tv_isTrue DD x7 v1 u x9 hx9) _ _ _ _ _ _ _ _ _ _ [pI v2, pR x4] _ [pI x9, pI v2, pR x4] q1213 (Nat.le_of_ble_eq_true rfl) (Nat.le_of_ble_eq_true rfl) rfl rfl (Nat.le_of_ble_eq_true rfl) dX6_mean_34 ⟨Nat.le_refl 0, Nat.le_refl 0⟩ ?_
      obtain ⟨u10, hu10, hf⟩ := obb hf
      refine c_zast hu10 dX6_mean_37 ?_
      refine j_iinc dX6_mean_38 2 rfl [(2, pI (v2 + 1)), (0, pR v0), (1, pR v1)] (Nat.le_of_ble_eq_true rfl) rfl ?_
      refine j_goto 2 dX6_mean_41 (by decide) ?_
      exact j_sub [1, 2, 0] _ rfl (ih (v2 + 1) u10 hf)
theorem t6_mean {G : CG} {A : Nat → Prop} {l : Launch} {r : Sg} (v0 : Option Nat) (v1 : Option Nat) (u : Sg) (hf : f6_mean G v0 v1 u = some r) : JM kC (bC G A) A l yX6_mean D6_mean [pR v0, pR v1] u none r 0 0 := by
  refine j_met (lv0 := [(0, pR v0), (1, pR v1)]) ⟨pl_X6, rfl, rfl, (Nat.le_of_ble_eq_true rfl), rfl⟩ ?_
  unfold f6_mean at hf
  refine j_iconst dX6_mean_0 ?_
  refine j_istore_n dX6_mean_1 [(2, pI 0), (0, pR v0), (1, pR v1)] (Nat.le_of_ble_eq_true rfl) rfl ?_
  refine j_sub [1, 2, 0] _ rfl (t6_mean_l2 v0 v1 ?_ NN 0 u hf)
  · intro q1 hf
    replace hf := Option.some.inj hf
    subst hf
    exact j_return (bC_mv G A) ⟨Nat.le_refl 0, Nat.le_refl 0⟩ rfl dX6_mean_44
theorem t6_way_l15 {G : CG} {A : Nat → Prop} {l : Launch} {a : List PV} {r : Sg} {Kf : Sg → Option (Sg)} (v0 : Option Nat) (v2 : Option Nat) (hK0 : ∀ q : Sg, Kf q = some r → JW kC (bC G A) A l D6_way a (jQ (bC G A) A a none r 0 0) 0 0 q 0 0 70 [] []) : ∀ (n : Nat) (v3 : Int) (v4 : Int) (u : Sg), ((f6_way_l15 G v0 v2 n v3 v4 u).bind Kf = some r) → JW kC (bC G A) A l D6_way a (jQ (bC G A) A a none r 0 0) 0 0 u 0 0 15 [(0, pR v0), (2, pR v2), (3, pI v3), (4, pI v4)] [] := by
  intro n
  induction n with
  | zero => intro v3 v4 u hf; exact onb hf
  | succ n ih =>
    intro v3 v4 u hf
    unfold f6_way_l15 at hf
    refine j_iload dX6_way_15 3 rfl ?_
    refine j_if_lt (w32 v4) rfl 70 dX6_way_17 (by decide) (fun h13 => ?_) (fun h13 => ?_)
    · replace hf := itb h13 hf
      exact j_sub [] _ rfl (hK0 u hf)
    · replace hf := ieb h13 hf
      refine j_aload_n dX6_way_20 0 rfl ?_
      obtain ⟨x1, hx1, hf⟩ := obb hf
      refine c_geta (ci := 6) (k := 10) hx1 zcl_6 (Nat.le_of_ble_eq_true rfl) zf_X6_41 fk_250 dX6_way_21 ?_
      refine j_iload dX6_way_24 3 rfl ?_
      obtain ⟨b2, hb2, hf⟩ := obb hf
      obtain ⟨eb2, tb2⟩ := ztg_s hb2
      obtain ⟨x3, hx3, hf⟩ := obb hf
      refine a_Fr (x := ix_1) [pI v4] [] (tJ2_get (some b2) v4 u hx3) ⟨q810, q813, q815, q131, q817⟩ iF_1 df_1 rfl ⟨(Nat.le_of_ble_eq_true rfl), (Nat.le_of_ble_eq_true rfl)⟩ zcl_5 rfl tb2 (by rw [← eb2]; rfl) (Nat.le_of_ble_eq_true rfl) dX6_way_26 ⟨Nat.le_refl 0, Nat.le_refl 0⟩ ?_
      obtain ⟨y4, hy4, hf⟩ := obb hf
      refine c_cast hy4 zok_Starts q1141 dX6_way_31 ?_
      refine j_astore dX6_way_34 [(5, pR x3), (0, pR v0), (2, pR v2), (3, pI v3), (4, pI v4)] (Nat.le_of_ble_eq_true rfl) rfl ?_
      refine j_aload_n dX6_way_36 2 rfl ?_
      obtain ⟨x5, hx5, hf⟩ := obb hf
      refine c_getaN (ci := 1) (k := 0) hx5 zcl_1 (Nat.le_of_ble_eq_true rfl) zf_X6_131 fk_40 dX6_way_37 ?_
      refine j_iload dX6_way_40 4 rfl ?_
      refine j_aload dX6_way_42 0 rfl ?_
      obtain ⟨x6, hx6, hf⟩ := obb hf
      refine c_getaN (ci := 4) (k := 0) hx6 zcl_4 (Nat.le_of_ble_eq_true rfl) zf_X6_134 fk_160 dX6_way_44 ?_
      refine j_iload_n dX6_way_47 3 rfl ?_
      refine j_aload dX6_way_48 0 rfl ?_
      obtain ⟨x7, hx7, hf⟩ := obb hf
      refine c_getiN (ci := 4) (k := 1) hx7 zcl_4 (Nat.le_of_ble_eq_true rfl) zf_X6_99 fk_161 dX6_way_50 ?_
      rcases Decidable.em (w32 x7 = 0) with h8 | h8
      · exact onb (itb h8 hf)
      · replace hf := ieb h8 hf
        refine j_irem dX6_way_53 h8 ?_
        obtain ⟨x9, hx9, hf⟩ := obb hf
        refine c_iald hx9 dX6_way_54 ?_
        obtain ⟨u10, hu10, hf⟩ := obb hf
        refine c_iast hu10 dX6_way_55 ?_
        refine j_iload_n dX6_way_56 3 rfl ?_
        refine j_aload dX6_way_57 0 rfl ?_
        obtain ⟨x11, hx11, hf⟩ := obb hf
        refine c_getiN (ci := 4) (k := 1) hx11 zcl_4 (Nat.le_of_ble_eq_true rfl) zf_X6_99 fk_161 dX6_way_59 ?_
        rcases Decidable.em (w32 x11 = 0) with h12 | h12
        · exact onb (itb h12 hf)
        · replace hf := ieb h12 hf
          refine j_idiv dX6_way_62 h12 ?_
          refine j_istore_n dX6_way_63 [(3, pI (div32 v3 x11)), (5, pR x3), (0, pR v0), (2, pR v2), (4, pI v4)] (Nat.le_of_ble_eq_true rfl) rfl ?_
          refine j_iinc dX6_way_64 4 rfl [(4, pI (v4 + (-1))), (3, pI (div32 v3 x11)), (5, pR x3), (0, pR v0), (2, pR v2)] (Nat.le_of_ble_eq_true rfl) rfl ?_
          refine j_goto 15 dX6_way_67 (by decide) ?_
          exact j_sub [3, 4, 1, 0] _ rfl (ih (div32 v3 x11) (v4 + (-1)) u10 hf)
theorem t6_way {G : CG} {A : Nat → Prop} {l : Launch} {r : Sg} (v0 : Option Nat) (v1 : Int) (v2 : Option Nat) (u : Sg) (hf : f6_way G v0 v1 v2 u = some r) : JM kC (bC G A) A l yX6_way D6_way [pR v0, pI v1, pR v2] u none r 0 0 := by
  refine j_met (lv0 := [(0, pR v0), (1, pI v1), (2, pR v2)]) ⟨pl_X6, rfl, rfl, (Nat.le_of_ble_eq_true rfl), rfl⟩ ?_
  unfold f6_way at hf
  refine j_iload_n dX6_way_0 1 rfl ?_
  refine j_istore_n dX6_way_1 [(3, pI v1), (0, pR v0), (1, pI v1), (2, pR v2)] (Nat.le_of_ble_eq_true rfl) rfl ?_
  refine j_aload_n dX6_way_2 1 rfl ?_
  obtain ⟨x1, hx1, hf⟩ := ob hf
  refine c_geta (ci := 6) (k := 0) hx1 zcl_6 (Nat.le_of_ble_eq_true rfl) zf_X6_12 fk_240 dX6_way_3 ?_
  obtain ⟨b2, hb2, hf⟩ := ob hf
  obtain ⟨eb2, tb2⟩ := ztg_s hb2
  obtain ⟨x3, hx3, hf⟩ := ob hf
  refine a_Fr (x := ix_0) [] [] (tJ2_size (some b2) u hx3) ⟨q808, q559, q561, q131, q563⟩ iF_0 df_0 rfl ⟨(Nat.le_of_ble_eq_true rfl), (Nat.le_of_ble_eq_true rfl)⟩ zcl_5 rfl tb2 (by rw [← eb2]; rfl) (Nat.le_of_ble_eq_true rfl) dX6_way_6 ⟨Nat.le_refl 0, Nat.le_refl 0⟩ ?_
  refine j_iconst dX6_way_11 ?_
  refine j_isub dX6_way_12 ?_
  refine j_istore dX6_way_13 [(4, pI (x3 - 1)), (3, pI v1), (0, pR v0), (1, pI v1), (2, pR v2)] (Nat.le_of_ble_eq_true rfl) rfl ?_
  refine j_sub [2, 4, 1, 0] _ rfl (t6_way_l15 v0 v2 ?_ NN v1 (x3 - 1) u hf)
  · intro q4 hf
    replace hf := Option.some.inj hf
    subst hf
    exact j_return (bC_mv G A) ⟨Nat.le_refl 0, Nat.le_refl 0⟩ rfl dX6_way_70
theorem t6_answerAll_b139 {G : CG} {A : Nat → Prop} {l : Launch} {a : List PV} {mc ms : Nat} {r : Sg} {Kf : Sg → Option ((Sg) × Nat × Nat)} {v0 : Option Nat} {v1 : Option Nat} {v2 : Int} (kh : Int → Int → Sg → Option ((Sg) × Nat × Nat)) (hkh : ∀ (z3 : Int) (z4 : Int) (zu : Sg) {ce sl c0 n0 : Nat}, ce + c0 ≤ mc ∧ sl + n0 ≤ ms → (bdU (kh z3 z4 zu) Kf = some (r, c0, n0)) → JW kC (bC G A) A l D6_answerAll a (jQ (bC G A) A a none r mc ms) mc ms zu ce sl 46 [(0, pR v0), (1, pR v1), (2, pI v2), (3, pI z3), (4, pI z4)] []) (hK0 : ∀ (q : Sg) {ce sl c0 n0 : Nat}, ce + c0 ≤ mc ∧ sl + n0 ≤ ms → Kf q = some (r, c0, n0) → JW kC (bC G A) A l D6_answerAll a (jQ (bC G A) A a none r mc ms) mc ms q ce sl 158 [(0, pR v0), (1, pR v1), (2, pI v2)] []) (v3 : Int) (v4 : Int) (s0 : Option Nat) (s1 : Int) (s2 : Int) (u : Sg) {ce sl c0 n0 : Nat} (hcs : ce + c0 ≤ mc ∧ sl + n0 ≤ ms) (hf : bdU (f6_answerAll_b139 G kh v0 v1 v2 v3 v4 s0 s1 s2 u) Kf = some (r, c0, n0)) : JW kC (bC G A) A l D6_answerAll a (jQ (bC G A) A a none r mc ms) mc ms u ce sl 139 [(0, pR v0), (1, pR v1), (2, pI v2), (3, pI v3), (4, pI v4)] [pI s2, pI s1, pR s0] := by
  unfold f6_answerAll_b139 at hf
  refine j_i2b dX6_answerAll_139 ?_
  obtain ⟨u1, hu1, hf⟩ := obK hf
  refine c_bast hu1 dX6_answerAll_140 ?_
  refine j_aload_n dX6_answerAll_141 0 rfl ?_
  obtain ⟨x2, hx2, hf⟩ := obK hf
  refine c_geta (ci := 6) (k := 13) hx2 zcl_6 (Nat.le_of_ble_eq_true rfl) zf_X6_145 fk_253 dX6_answerAll_142 ?_
  refine j_iload_n dX6_answerAll_145 2 rfl ?_
  refine j_iload dX6_answerAll_146 4 rfl ?_
  refine j_iconst dX6_answerAll_148 ?_
  refine j_iadd dX6_answerAll_149 ?_
  refine j_i2b dX6_answerAll_150 ?_
  obtain ⟨u3, hu3, hf⟩ := obK hf
  refine c_bast hu3 dX6_answerAll_151 ?_
  refine j_iinc dX6_answerAll_152 4 rfl [(4, pI (v4 + 1)), (0, pR v0), (1, pR v1), (2, pI v2), (3, pI v3)] (Nat.le_of_ble_eq_true rfl) rfl ?_
  refine j_goto 46 dX6_answerAll_155 (by decide) ?_
  exact j_sub [1, 2, 3, 4, 0] _ rfl (hkh v3 (v4 + 1) u3 hcs hf)
theorem t6_answerAll_b118 {G : CG} {A : Nat → Prop} {l : Launch} {a : List PV} {mc ms : Nat} {r : Sg} {Kf : Sg → Option ((Sg) × Nat × Nat)} {v0 : Option Nat} {v1 : Option Nat} {v2 : Int} (kh : Int → Int → Sg → Option ((Sg) × Nat × Nat)) (hkh : ∀ (z3 : Int) (z4 : Int) (zu : Sg) {ce sl c0 n0 : Nat}, ce + c0 ≤ mc ∧ sl + n0 ≤ ms → (bdU (kh z3 z4 zu) Kf = some (r, c0, n0)) → JW kC (bC G A) A l D6_answerAll a (jQ (bC G A) A a none r mc ms) mc ms zu ce sl 46 [(0, pR v0), (1, pR v1), (2, pI v2), (3, pI z3), (4, pI z4)] []) (hK0 : ∀ (q : Sg) {ce sl c0 n0 : Nat}, ce + c0 ≤ mc ∧ sl + n0 ≤ ms → Kf q = some (r, c0, n0) → JW kC (bC G A) A l D6_answerAll a (jQ (bC G A) A a none r mc ms) mc ms q ce sl 158 [(0, pR v0), (1, pR v1), (2, pI v2)] []) (v4 : Int) (v5 : Option Nat) (s0 : Int) (s1 : Int) (u : Sg) {ce sl c0 n0 : Nat} (hcs : ce + c0 ≤ mc ∧ sl + n0 ≤ ms) (hf : bdU (f6_answerAll_b118 G kh v0 v1 v2 v4 v5 s0 s1 u) Kf = some (r, c0, n0)) : JW kC (bC G A) A l D6_answerAll a (jQ (bC G A) A a none r mc ms) mc ms u ce sl 118 [(0, pR v0), (1, pR v1), (2, pI v2), (4, pI v4), (5, pR v5)] [pI s1, pI s0] := by
  unfold f6_answerAll_b118 at hf
  refine j_ior dX6_answerAll_118 ?_
  refine j_istore_n dX6_answerAll_119 [(3, pI (or32 s0 s1)), (0, pR v0), (1, pR v1), (2, pI v2), (4, pI v4), (5, pR v5)] (Nat.le_of_ble_eq_true rfl) rfl ?_
  refine j_aload_n dX6_answerAll_120 1 rfl ?_
  obtain ⟨x1, hx1, hf⟩ := obK hf
  refine c_geta (ci := 6) (k := 12) hx1 zcl_6 (Nat.le_of_ble_eq_true rfl) zf_X6_141 fk_252 dX6_answerAll_121 ?_
  refine j_iload_n dX6_answerAll_124 3 rfl ?_
  refine j_aload dX6_answerAll_125 5 rfl ?_
  obtain ⟨x2, hx2, hf⟩ := obK hf
  refine c_getiN (ci := 16) (k := 0) hx2 zcl_16 (Nat.le_of_ble_eq_true rfl) zf_X6_156 fk_640 dX6_answerAll_127 ?_
  refine j_iconst dX6_answerAll_130 ?_
  refine j_icmp_ne (w32 x2) 1 rfl rfl 138 dX6_answerAll_131 (by decide) (fun h3 => ?_) (fun h3 => ?_)
  · replace hf := ieK h3 hf
    refine j_iconst dX6_answerAll_138 ?_
    exact j_sub [1, 2, 3, 0, 4] _ rfl (t6_answerAll_b139 (kh) hkh hK0 (or32 s0 s1) v4 x1 v2 1 u hcs hf)
  · replace hf := itK h3 hf
    refine j_iconst dX6_answerAll_134 ?_
    refine j_goto 139 dX6_answerAll_135 (by decide) ?_
    exact j_sub [1, 2, 3, 0, 4] _ rfl (t6_answerAll_b139 (kh) hkh hK0 (or32 s0 s1) v4 x1 v2 0 u hcs hf)
theorem t6_answerAll_b89 {G : CG} {A : Nat → Prop} {l : Launch} {a : List PV} {mc ms : Nat} {r : Sg} {Kf : Sg → Option ((Sg) × Nat × Nat)} {v0 : Option Nat} {v1 : Option Nat} {v2 : Int} (kh : Int → Int → Sg → Option ((Sg) × Nat × Nat)) (hkh : ∀ (z3 : Int) (z4 : Int) (zu : Sg) {ce sl c0 n0 : Nat}, ce + c0 ≤ mc ∧ sl + n0 ≤ ms → (bdU (kh z3 z4 zu) Kf = some (r, c0, n0)) → JW kC (bC G A) A l D6_answerAll a (jQ (bC G A) A a none r mc ms) mc ms zu ce sl 46 [(0, pR v0), (1, pR v1), (2, pI v2), (3, pI z3), (4, pI z4)] []) (hK0 : ∀ (q : Sg) {ce sl c0 n0 : Nat}, ce + c0 ≤ mc ∧ sl + n0 ≤ ms → Kf q = some (r, c0, n0) → JW kC (bC G A) A l D6_answerAll a (jQ (bC G A) A a none r mc ms) mc ms q ce sl 158 [(0, pR v0), (1, pR v1), (2, pI v2)] []) (v3 : Int) (v4 : Int) (v5 : Option Nat) (u : Sg) {ce sl c0 n0 : Nat} (hcs : ce + c0 ≤ mc ∧ sl + n0 ≤ ms) (hf : bdU (f6_answerAll_b89 G kh v0 v1 v2 v3 v4 v5 u) Kf = some (r, c0, n0)) : JW kC (bC G A) A l D6_answerAll a (jQ (bC G A) A a none r mc ms) mc ms u ce sl 89 [(0, pR v0), (1, pR v1), (2, pI v2), (3, pI v3), (4, pI v4), (5, pR v5)] [] := by
  unfold f6_answerAll_b89 at hf
  refine j_aload dX6_answerAll_89 5 rfl ?_
  obtain ⟨x1, hx1, hf⟩ := obK hf
  refine c_getaN (ci := 16) (k := 1) hx1 zcl_16 (Nat.le_of_ble_eq_true rfl) zf_X6_85 fk_641 dX6_answerAll_91 ?_
  refine j_aload_n dX6_answerAll_94 1 rfl ?_
  obtain ⟨x2, hx2, hf⟩ := obK hf
  refine (tv_isTrue DD x1 v1 u x2 hx2) _ _ _ _ _ _ _ _ _ _ [] _ [pI x2] q1213 (Nat.le_of_ble_eq_true rfl) (Nat.le_of_ble_eq_true rfl) rfl rfl (Nat.le_of_ble_eq_true rfl) dX6_answerAll_95 (hcs_ret (x := ()) (r := ()) hcs) ?_
  refine j_if_ne (w32 x2) rfl 104 dX6_answerAll_98 (by decide) (fun h5 => ?_) (fun h5 => ?_)
  · replace hf := ieK h5 hf
    refine j_iload_n dX6_answerAll_104 3 rfl ?_
    refine j_aload dX6_answerAll_105 5 rfl ?_
    obtain ⟨x3, hx3, hf⟩ := obK hf
    refine c_getiN (ci := 16) (k := 0) hx3 zcl_16 (Nat.le_of_ble_eq_true rfl) zf_X6_156 fk_640 dX6_answerAll_107 ?_
    refine j_if_ne (w32 x3) rfl 117 dX6_answerAll_110 (by decide) (fun h4 => ?_) (fun h4 => ?_)
    · replace hf := ieK h4 hf
      refine j_iconst dX6_answerAll_117 ?_
      exact j_sub [0, 1, 2, 4, 5] _ rfl (t6_answerAll_b118 (kh) hkh hK0 v4 v5 v3 0 u hcs hf)
    · replace hf := itK h4 hf
      refine j_iconst dX6_answerAll_113 ?_
      refine j_goto 118 dX6_answerAll_114 (by decide) ?_
      exact j_sub [0, 1, 2, 4, 5] _ rfl (t6_answerAll_b118 (kh) hkh hK0 v4 v5 v3 1 u hcs hf)
  · replace hf := itK h5 hf
    refine j_goto 152 dX6_answerAll_101 (by decide) ?_
    refine j_iinc dX6_answerAll_152 4 rfl [(4, pI (v4 + 1)), (0, pR v0), (1, pR v1), (2, pI v2), (3, pI v3), (5, pR v5)] (Nat.le_of_ble_eq_true rfl) rfl ?_
    refine j_goto 46 dX6_answerAll_155 (by decide) ?_
    exact j_sub [1, 2, 3, 4, 0] _ rfl (hkh v3 (v4 + 1) u hcs hf)
theorem t6_answerAll_l46 {G : CG} {A : Nat → Prop} {l : Launch} {a : List PV} {mc ms : Nat} {r : Sg} {Kf : Sg → Option ((Sg) × Nat × Nat)} (v0 : Option Nat) (v1 : Option Nat) (v2 : Int) (hK0 : ∀ (q : Sg) {ce sl c0 n0 : Nat}, ce + c0 ≤ mc ∧ sl + n0 ≤ ms → Kf q = some (r, c0, n0) → JW kC (bC G A) A l D6_answerAll a (jQ (bC G A) A a none r mc ms) mc ms q ce sl 158 [(0, pR v0), (1, pR v1), (2, pI v2)] []) : ∀ (n : Nat) (v3 : Int) (v4 : Int) (u : Sg) {ce sl c0 n0 : Nat}, ce + c0 ≤ mc ∧ sl + n0 ≤ ms → (bdU (f6_answerAll_l46 G v0 v1 v2 n v3 v4 u) Kf = some (r, c0, n0)) → JW kC (bC G A) A l D6_answerAll a (jQ (bC G A) A a none r mc ms) mc ms u ce sl 46 [(0, pR v0), (1, pR v1), (2, pI v2), (3, pI v3), (4, pI v4)] [] := by
  intro n
  induction n with
  | zero => intro v3 v4 u ce sl c0 n0 hcs hf; exact onK hf
  | succ n ih =>
    intro v3 v4 u ce sl c0 n0 hcs hf
    unfold f6_answerAll_l46 at hf
    refine j_iload dX6_answerAll_46 4 rfl ?_
    refine j_aload_n dX6_answerAll_48 0 rfl ?_
    obtain ⟨x1, hx1, hf⟩ := obK hf
    refine c_geta (ci := 6) (k := 3) hx1 zcl_6 (Nat.le_of_ble_eq_true rfl) zf_X6_24 fk_243 dX6_answerAll_49 ?_
    obtain ⟨b2, hb2, hf⟩ := obK hf
    obtain ⟨eb2, tb2⟩ := ztg_s hb2
    obtain ⟨x3, hx3, hf⟩ := obK hf
    refine a_Fr (x := ix_0) [] [pI v4] (tJ2_size (some b2) u hx3) ⟨q808, q559, q561, q131, q563⟩ iF_0 df_0 rfl ⟨(Nat.le_of_ble_eq_true rfl), (Nat.le_of_ble_eq_true rfl)⟩ zcl_5 rfl tb2 (by rw [← eb2]; rfl) (Nat.le_of_ble_eq_true rfl) dX6_answerAll_52 (hcs_ret (x := ()) (r := ()) hcs) ?_
    refine j_icmp_ge (w32 v4) (w32 x3) rfl rfl 158 dX6_answerAll_57 (by decide) (fun h11 => ?_) (fun h11 => ?_)
    · replace hf := itK h11 hf
      exact j_sub [0, 1, 2] _ rfl (hK0 u hcs (bdU_0 hf))
    · replace hf := ieK h11 hf
      refine j_aload_n dX6_answerAll_60 0 rfl ?_
      obtain ⟨x4, hx4, hf⟩ := obK hf
      refine c_geta (ci := 6) (k := 3) hx4 zcl_6 (Nat.le_of_ble_eq_true rfl) zf_X6_24 fk_243 dX6_answerAll_61 ?_
      refine j_iload dX6_answerAll_64 4 rfl ?_
      obtain ⟨b5, hb5, hf⟩ := obK hf
      obtain ⟨eb5, tb5⟩ := ztg_s hb5
      obtain ⟨x6, hx6, hf⟩ := obK hf
      refine a_Fr (x := ix_1) [pI v4] [] (tJ2_get (some b5) v4 u hx6) ⟨q810, q813, q815, q131, q817⟩ iF_1 df_1 rfl ⟨(Nat.le_of_ble_eq_true rfl), (Nat.le_of_ble_eq_true rfl)⟩ zcl_5 rfl tb5 (by rw [← eb5]; rfl) (Nat.le_of_ble_eq_true rfl) dX6_answerAll_66 (hcs_ret (x := ()) (r := ()) hcs) ?_
      obtain ⟨y7, hy7, hf⟩ := obK hf
      refine c_cast hy7 zok_Clause q1181 dX6_answerAll_71 ?_
      refine j_astore dX6_answerAll_74 [(5, pR x6), (0, pR v0), (1, pR v1), (2, pI v2), (3, pI v3), (4, pI v4)] (Nat.le_of_ble_eq_true rfl) rfl ?_
      refine j_aload dX6_answerAll_76 0 rfl ?_
      obtain ⟨x8, hx8, hf⟩ := obK hf
      refine c_getiN (ci := 16) (k := 0) hx8 zcl_16 (Nat.le_of_ble_eq_true rfl) zf_X6_156 fk_640 dX6_answerAll_78 ?_
      refine j_iconst dX6_answerAll_81 ?_
      refine j_icmp_ne (w32 x8) 2 rfl rfl 89 dX6_answerAll_82 (by decide) (fun h10 => ?_) (fun h10 => ?_)
      · replace hf := ieK h10 hf
        exact j_sub [1, 2, 3, 4, 5, 0] _ rfl (t6_answerAll_b89 (f6_answerAll_l46 G v0 v1 v2 n) ih hK0 v3 v4 x6 u hcs hf)
      · replace hf := itK h10 hf
        refine j_iload_n dX6_answerAll_85 4 rfl ?_
        refine j_if_eq (w32 v3) rfl 152 dX6_answerAll_86 (by decide) (fun h9 => ?_) (fun h9 => ?_)
        · replace hf := itK h9 hf
          refine j_iinc dX6_answerAll_152 5 rfl [(4, pI (v4 + 1)), (5, pR x6), (0, pR v0), (1, pR v1), (2, pI v2), (3, pI v3)] (Nat.le_of_ble_eq_true rfl) rfl ?_
          refine j_goto 46 dX6_answerAll_155 (by decide) ?_
          exact j_sub [2, 3, 4, 5, 0] _ rfl (ih v3 (v4 + 1) u hcs hf)
        · replace hf := ieK h9 hf
          exact j_sub [1, 2, 3, 4, 5, 0] _ rfl (t6_answerAll_b89 (f6_answerAll_l46 G v0 v1 v2 n) ih hK0 v3 v4 x6 u hcs hf)
theorem t6_answerAll_l22 {G : CG} {A : Nat → Prop} {l : Launch} {a : List PV} {mc ms : Nat} {r : Sg} {Kf : Sg → Option ((Sg) × Nat × Nat)} (v0 : Option Nat) (v1 : Option Nat) (hK0 : ∀ (q : Sg) {ce sl c0 n0 : Nat}, ce + c0 ≤ mc ∧ sl + n0 ≤ ms → Kf q = some (r, c0, n0) → JW kC (bC G A) A l D6_answerAll a (jQ (bC G A) A a none r mc ms) mc ms q ce sl 164 [] []) : ∀ (n : Nat) (v2 : Int) (u : Sg) {ce sl c0 n0 : Nat}, ce + c0 ≤ mc ∧ sl + n0 ≤ ms → (bdU (f6_answerAll_l22 G v0 v1 n v2 u) Kf = some (r, c0, n0)) → JW kC (bC G A) A l D6_answerAll a (jQ (bC G A) A a none r mc ms) mc ms u ce sl 22 [(0, pR v0), (1, pR v1), (2, pI v2)] [] := by
  intro n
  induction n with
  | zero => intro v2 u ce sl c0 n0 hcs hf; exact onK hf
  | succ n ih =>
    intro v2 u ce sl c0 n0 hcs hf
    unfold f6_answerAll_l22 at hf
    refine j_iload_n dX6_answerAll_22 2 rfl ?_
    refine j_aload_n dX6_answerAll_23 0 rfl ?_
    obtain ⟨x1, hx1, hf⟩ := obK hf
    refine c_geti (ci := 6) (k := 11) hx1 zcl_6 (Nat.le_of_ble_eq_true rfl) zf_X6_109 fk_251 dX6_answerAll_24 ?_
    refine j_icmp_ge (w32 v2) (w32 x1) rfl rfl 164 dX6_answerAll_27 (by decide) (fun h7 => ?_) (fun h7 => ?_)
    · replace hf := itK h7 hf
      exact j_sub [] _ rfl (hK0 u hcs (bdU_0 hf))
    · replace hf := ieK h7 hf
      refine j_aload_n dX6_answerAll_30 0 rfl ?_
      refine j_iload_n dX6_answerAll_31 2 rfl ?_
      refine j_aload_n dX6_answerAll_32 1 rfl ?_
      obtain ⟨b2, hb2, hf⟩ := obK hf
      obtain ⟨eb2, tb2⟩ := ztg_s hb2
      obtain ⟨u3, hu3, hf⟩ := obK hf
      refine a_Vv [pI v2, pR v1] [] (t6_way (some b2) v2 v1 u hu3) ⟨q1205, q1206, q1207, q145, q1208⟩ dv6_way rfl ⟨(Nat.le_of_ble_eq_true rfl), (Nat.le_of_ble_eq_true rfl)⟩ (c_recv zcl_6 tb2) (by rw [← eb2]; rfl) (Nat.le_of_ble_eq_true rfl) dX6_answerAll_33 (hcs_ret (x := ()) (r := ()) hcs) ?_
      refine j_aload_n dX6_answerAll_36 0 rfl ?_
      refine j_aload_n dX6_answerAll_37 1 rfl ?_
      obtain ⟨b4, hb4, hf⟩ := obK hf
      obtain ⟨eb4, tb4⟩ := ztg_s hb4
      obtain ⟨u5, hu5, hf⟩ := obK hf
      refine a_Vv [pR v1] [] (t6_mean (some b4) v1 u3 hu5) ⟨q1209, q1210, q1211, q145, q1212⟩ dv6_mean rfl ⟨(Nat.le_of_ble_eq_true rfl), (Nat.le_of_ble_eq_true rfl)⟩ (c_recv zcl_6 tb4) (by rw [← eb4]; rfl) (Nat.le_of_ble_eq_true rfl) dX6_answerAll_38 (hcs_ret (x := ()) (r := ()) hcs) ?_
      refine j_iconst dX6_answerAll_41 ?_
      refine j_istore_n dX6_answerAll_42 [(3, pI 0), (0, pR v0), (1, pR v1), (2, pI v2)] (Nat.le_of_ble_eq_true rfl) rfl ?_
      refine j_iconst dX6_answerAll_43 ?_
      refine j_istore dX6_answerAll_44 [(4, pI 0), (3, pI 0), (0, pR v0), (1, pR v1), (2, pI v2)] (Nat.le_of_ble_eq_true rfl) rfl ?_
      replace hf := bdU_a hf
      refine j_sub [2, 3, 4, 1, 0] _ rfl (t6_answerAll_l46 v0 v1 v2 ?_ NN 0 0 u5 hcs hf)
      · intro q6 ceq6 slq6 cq6 nq6 hcs hf
        refine j_iinc dX6_answerAll_158 2 rfl [(2, pI (v2 + 1)), (0, pR v0), (1, pR v1)] (Nat.le_of_ble_eq_true rfl) rfl ?_
        refine j_goto 22 dX6_answerAll_161 (by decide) ?_
        exact j_sub [1, 2, 0] _ rfl (ih (v2 + 1) q6 hcs hf)
theorem t6_answerAll {G : CG} {A : Nat → Prop} {l : Launch} {r : Sg} {c0 n0 : Nat} (v0 : Option Nat) (v1 : Option Nat) (u : Sg) (hf : f6_answerAll G v0 v1 u = some (r, c0, n0)) : JM kC (bC G A) A l yX6_answerAll D6_answerAll [pR v0, pR v1] u none r c0 n0 := by
  refine j_met (lv0 := [(0, pR v0), (1, pR v1)]) ⟨pl_X6, rfl, rfl, (Nat.le_of_ble_eq_true rfl), rfl⟩ ?_
  have hcs : 0 + c0 ≤ c0 ∧ 0 + n0 ≤ n0 := ⟨by omega, by omega⟩
  unfold f6_answerAll at hf
  refine j_aload_n dX6_answerAll_0 0 rfl ?_
  refine j_aload_n dX6_answerAll_1 0 rfl ?_
  obtain ⟨x1, hx1, hf⟩ := ob hf
  refine c_geti (ci := 6) (k := 11) hx1 zcl_6 (Nat.le_of_ble_eq_true rfl) zf_X6_109 fk_251 dX6_answerAll_2 ?_
  obtain ⟨q2, kq2, mq2, k_q2, m_q2, hq2, hf, hkq2, hmq2⟩ := bdU_s hf
  obtain ⟨hczq2, hcs⟩ := hcs_step hcs hkq2 hmq2
  refine c_newa hq2 zat_2 dX6_answerAll_5 hczq2 ?_
  obtain ⟨u3, hu3, hf⟩ := ob hf
  refine c_puta (ci := 6) (k := 12) hu3 zcl_6 (Nat.le_of_ble_eq_true rfl) zf_X6_141 fk_252 rfl fits_A dX6_answerAll_7 ?_
  refine j_aload_n dX6_answerAll_10 0 rfl ?_
  refine j_aload_n dX6_answerAll_11 0 rfl ?_
  obtain ⟨x4, hx4, hf⟩ := ob hf
  refine c_geti (ci := 6) (k := 11) hx4 zcl_6 (Nat.le_of_ble_eq_true rfl) zf_X6_109 fk_251 dX6_answerAll_12 ?_
  obtain ⟨q5, kq5, mq5, k_q5, m_q5, hq5, hf, hkq5, hmq5⟩ := bdU_s hf
  obtain ⟨hczq5, hcs⟩ := hcs_step hcs hkq5 hmq5
  refine c_newa hq5 zat_2 dX6_answerAll_15 hczq5 ?_
  obtain ⟨u6, hu6, hf⟩ := ob hf
  refine c_puta (ci := 6) (k := 13) hu6 zcl_6 (Nat.le_of_ble_eq_true rfl) zf_X6_145 fk_253 rfl fits_A dX6_answerAll_17 ?_
  refine j_iconst dX6_answerAll_20 ?_
  refine j_istore_n dX6_answerAll_21 [(2, pI 0), (0, pR v0), (1, pR v1)] (Nat.le_of_ble_eq_true rfl) rfl ?_
  refine j_sub [1, 2, 0] _ rfl (t6_answerAll_l22 v0 v1 ?_ NN 0 u6 hcs hf)
  · intro q7 ceq7 slq7 cq7 nq7 hcs hf
    replace hf := retU hf
    subst hf
    exact j_return (bC_mv G A) (hcs_ret (x := ()) (r := ()) hcs) rfl dX6_answerAll_164
theorem t6_countNodes_l10 {G : CG} {A : Nat → Prop} {l : Launch} {a : List PV} {r : Int × Sg} {Kf : Sg → Option (Int × Sg)} (v0 : Option Nat) (hK0 : ∀ q : Sg, Kf q = some r → JW kC (bC G A) A l D6_countNodes a (jQ (bC G A) A a (some (pI r.1)) r.2 0 0) 0 0 q 0 0 54 [(0, pR v0)] []) : ∀ (n : Nat) (v1 : Int) (u : Sg), ((f6_countNodes_l10 G v0 n v1 u).bind Kf = some r) → JW kC (bC G A) A l D6_countNodes a (jQ (bC G A) A a (some (pI r.1)) r.2 0 0) 0 0 u 0 0 10 [(0, pR v0), (1, pI v1)] [] := by
  intro n
  induction n with
  | zero => intro v1 u hf; exact onb hf
  | succ n ih =>
    intro v1 u hf
    unfold f6_countNodes_l10 at hf
    refine j_iload_n dX6_countNodes_10 1 rfl ?_
    refine j_aload_n dX6_countNodes_11 0 rfl ?_
    obtain ⟨x1, hx1, hf⟩ := obb hf
    refine c_geta (ci := 6) (k := 3) hx1 zcl_6 (Nat.le_of_ble_eq_true rfl) zf_X6_24 fk_243 dX6_countNodes_12 ?_
    obtain ⟨b2, hb2, hf⟩ := obb hf
    obtain ⟨eb2, tb2⟩ := ztg_s hb2
    obtain ⟨x3, hx3, hf⟩ := obb hf
    refine a_Fr (x := ix_0) [] [pI v1] (tJ2_size (some b2) u hx3) ⟨q808, q559, q561, q131, q563⟩ iF_0 df_0 rfl ⟨(Nat.le_of_ble_eq_true rfl), (Nat.le_of_ble_eq_true rfl)⟩ zcl_5 rfl tb2 (by rw [← eb2]; rfl) (Nat.le_of_ble_eq_true rfl) dX6_countNodes_15 ⟨Nat.le_refl 0, Nat.le_refl 0⟩ ?_
    refine j_icmp_ge (w32 v1) (w32 x3) rfl rfl 54 dX6_countNodes_20 (by decide) (fun h11 => ?_) (fun h11 => ?_)
    · replace hf := itb h11 hf
      exact j_sub [0] _ rfl (hK0 u hf)
    · replace hf := ieb h11 hf
      refine j_aload_n dX6_countNodes_23 0 rfl ?_
      refine j_dup dX6_countNodes_24 rfl ?_
      obtain ⟨x4, hx4, hf⟩ := obb hf
      refine c_geti (ci := 6) (k := 9) hx4 zcl_6 (Nat.le_of_ble_eq_true rfl) zf_X6_73 fk_249 dX6_countNodes_25 ?_
      refine j_aload_n dX6_countNodes_28 0 rfl ?_
      obtain ⟨x5, hx5, hf⟩ := obb hf
      refine c_geta (ci := 6) (k := 3) hx5 zcl_6 (Nat.le_of_ble_eq_true rfl) zf_X6_24 fk_243 dX6_countNodes_29 ?_
      refine j_iload_n dX6_countNodes_32 1 rfl ?_
      obtain ⟨b6, hb6, hf⟩ := obb hf
      obtain ⟨eb6, tb6⟩ := ztg_s hb6
      obtain ⟨x7, hx7, hf⟩ := obb hf
      refine a_Fr (x := ix_1) [pI v1] [pI x4, pR v0] (tJ2_get (some b6) v1 u hx7) ⟨q810, q813, q815, q131, q817⟩ iF_1 df_1 rfl ⟨(Nat.le_of_ble_eq_true rfl), (Nat.le_of_ble_eq_true rfl)⟩ zcl_5 rfl tb6 (by rw [← eb6]; rfl) (Nat.le_of_ble_eq_true rfl) dX6_countNodes_33 ⟨Nat.le_refl 0, Nat.le_refl 0⟩ ?_
      obtain ⟨y8, hy8, hf⟩ := obb hf
      refine c_cast hy8 zok_Clause q1181 dX6_countNodes_38 ?_
      obtain ⟨x9, hx9, hf⟩ := obb hf
      refine c_getiN (ci := 16) (k := 2) hx9 zcl_16 (Nat.le_of_ble_eq_true rfl) zf_X6_78 fk_642 dX6_countNodes_41 ?_
      refine j_iadd dX6_countNodes_44 ?_
      obtain ⟨u10, hu10, hf⟩ := obb hf
      refine c_puti (ci := 6) (k := 9) hu10 zcl_6 (Nat.le_of_ble_eq_true rfl) zf_X6_73 fk_249 rfl fits_I dX6_countNodes_45 ?_
      refine j_iinc dX6_countNodes_48 1 rfl [(1, pI (v1 + 1)), (0, pR v0)] (Nat.le_of_ble_eq_true rfl) rfl ?_
      refine j_goto 10 dX6_countNodes_51 (by decide) ?_
      exact j_sub [1, 0] _ rfl (ih (v1 + 1) u10 hf)
theorem t6_countNodes {G : CG} {A : Nat → Prop} {l : Launch} {r : Int × Sg} (v0 : Option Nat) (u : Sg) (hf : f6_countNodes G v0 u = some r) : JM kC (bC G A) A l yX6_countNodes D6_countNodes [pR v0] u (some (pI r.1)) r.2 0 0 := by
  refine j_met (lv0 := [(0, pR v0)]) ⟨pl_X6, rfl, rfl, (Nat.le_of_ble_eq_true rfl), rfl⟩ ?_
  unfold f6_countNodes at hf
  refine j_aload_n dX6_countNodes_0 0 rfl ?_
  refine j_aload_n dX6_countNodes_1 0 rfl ?_
  obtain ⟨x1, hx1, hf⟩ := ob hf
  refine c_geti (ci := 6) (k := 8) hx1 zcl_6 (Nat.le_of_ble_eq_true rfl) zf_X6_70 fk_248 dX6_countNodes_2 ?_
  obtain ⟨u2, hu2, hf⟩ := ob hf
  refine c_puti (ci := 6) (k := 9) hu2 zcl_6 (Nat.le_of_ble_eq_true rfl) zf_X6_73 fk_249 rfl fits_I dX6_countNodes_5 ?_
  refine j_iconst dX6_countNodes_8 ?_
  refine j_istore_n dX6_countNodes_9 [(1, pI 0), (0, pR v0)] (Nat.le_of_ble_eq_true rfl) rfl ?_
  refine j_sub [1, 0] _ rfl (t6_countNodes_l10 v0 ?_ NN 0 u2 hf)
  · intro q3 hf
    refine j_aload_n dX6_countNodes_54 0 rfl ?_
    obtain ⟨x4, hx4, hf⟩ := ob hf
    refine c_geti (ci := 6) (k := 9) hx4 zcl_6 (Nat.le_of_ble_eq_true rfl) zf_X6_73 fk_249 dX6_countNodes_55 ?_
    replace hf := Option.some.inj hf
    subst hf
    exact j_ireturn (bC_mv G A) ⟨Nat.le_refl 0, Nat.le_refl 0⟩ rfl dX6_countNodes_58
theorem t4_begin_l49 {G : CG} {A : Nat → Prop} {l : Launch} {a : List PV} {r : Sg} {Kf : Sg → Option (Sg)} (v0 : Option Nat) (v1 : Option Nat) (hK0 : ∀ q : Sg, Kf q = some r → JW kC (bC G A) A l D4_begin a (jQ (bC G A) A a none r 0 0) 0 0 q 0 0 80 [] []) : ∀ (n : Nat) (v2 : Int) (u : Sg), ((f4_begin_l49 G v0 v1 n v2 u).bind Kf = some r) → JW kC (bC G A) A l D4_begin a (jQ (bC G A) A a none r 0 0) 0 0 u 0 0 49 [(0, pR v0), (1, pR v1), (2, pI v2)] [] := by
  intro n
  induction n with
  | zero => intro v2 u hf; exact onb hf
  | succ n ih =>
    intro v2 u hf
    unfold f4_begin_l49 at hf
    refine j_iload_n dX4_begin_49 2 rfl ?_
    refine j_aload_n dX4_begin_50 1 rfl ?_
    obtain ⟨x1, hx1, hf⟩ := obb hf
    refine c_getiN (ci := 9) (k := 5) hx1 zcl_9 (Nat.le_of_ble_eq_true rfl) zf_X4_19 fk_365 dX4_begin_51 ?_
    refine j_icmp_gt (w32 v2) (w32 x1) rfl rfl 80 dX4_begin_54 (by decide) (fun h6 => ?_) (fun h6 => ?_)
    · replace hf := itb h6 hf
      exact j_sub [] _ rfl (hK0 u hf)
    · replace hf := ieb h6 hf
      refine j_aload_n dX4_begin_57 0 rfl ?_
      obtain ⟨x2, hx2, hf⟩ := obb hf
      refine c_geta (ci := 4) (k := 0) hx2 zcl_4 (Nat.le_of_ble_eq_true rfl) zf_X4_9 fk_160 dX4_begin_58 ?_
      refine j_aload_n dX4_begin_61 0 rfl ?_
      refine j_dup dX4_begin_62 rfl ?_
      obtain ⟨x3, hx3, hf⟩ := obb hf
      refine c_geti (ci := 4) (k := 1) hx3 zcl_4 (Nat.le_of_ble_eq_true rfl) zf_X4_15 fk_161 dX4_begin_63 ?_
      refine j_dup_x1 dX4_begin_66 rfl rfl ?_
      refine j_iconst dX4_begin_67 ?_
      refine j_iadd dX4_begin_68 ?_
      obtain ⟨u4, hu4, hf⟩ := obb hf
      refine c_puti (ci := 4) (k := 1) hu4 zcl_4 (Nat.le_of_ble_eq_true rfl) zf_X4_15 fk_161 rfl fits_I dX4_begin_69 ?_
      refine j_iload_n dX4_begin_72 2 rfl ?_
      obtain ⟨u5, hu5, hf⟩ := obb hf
      refine c_iast hu5 dX4_begin_73 ?_
      refine j_iinc dX4_begin_74 2 rfl [(2, pI (v2 + 1)), (0, pR v0), (1, pR v1)] (Nat.le_of_ble_eq_true rfl) rfl ?_
      refine j_goto 49 dX4_begin_77 (by decide) ?_
      exact j_sub [1, 2, 0] _ rfl (ih (v2 + 1) u5 hf)
theorem t4_begin {G : CG} {A : Nat → Prop} {l : Launch} {r : Sg} (v0 : Option Nat) (v1 : Option Nat) (u : Sg) (hf : f4_begin G v0 v1 u = some r) : JM kC (bC G A) A l yX4_begin D4_begin [pR v0, pR v1] u none r 0 0 := by
  refine j_met (lv0 := [(0, pR v0), (1, pR v1)]) ⟨pl_X4, rfl, rfl, (Nat.le_of_ble_eq_true rfl), rfl⟩ ?_
  unfold f4_begin at hf
  refine j_aload_n dX4_begin_0 0 rfl ?_
  refine j_iconst dX4_begin_1 ?_
  obtain ⟨u1, hu1, hf⟩ := ob hf
  refine c_puti (ci := 4) (k := 1) hu1 zcl_4 (Nat.le_of_ble_eq_true rfl) zf_X4_15 fk_161 rfl fits_I dX4_begin_2 ?_
  refine j_aload_n dX4_begin_5 0 rfl ?_
  refine j_aload_n dX4_begin_6 1 rfl ?_
  obtain ⟨x2, hx2, hf⟩ := ob hf
  refine c_getiN (ci := 9) (k := 5) hx2 zcl_9 (Nat.le_of_ble_eq_true rfl) zf_X4_19 fk_365 dX4_begin_7 ?_
  obtain ⟨u3, hu3, hf⟩ := ob hf
  refine c_puti (ci := 4) (k := 2) hu3 zcl_4 (Nat.le_of_ble_eq_true rfl) zf_X4_24 fk_162 rfl fits_I dX4_begin_10 ?_
  refine j_aload_n dX4_begin_13 1 rfl ?_
  obtain ⟨x4, hx4, hf⟩ := ob hf
  refine c_getiN (ci := 9) (k := 1) hx4 zcl_9 (Nat.le_of_ble_eq_true rfl) zf_X4_25 fk_361 dX4_begin_14 ?_
  refine j_iconst dX4_begin_17 ?_
  refine j_icmp_ne (w32 x4) 2 rfl rfl 44 dX4_begin_18 (by decide) (fun h12 => ?_) (fun h12 => ?_)
  · replace hf := ie h12 hf
    refine j_aload_n dX4_begin_44 1 rfl ?_
    obtain ⟨x5, hx5, hf⟩ := ob hf
    refine c_getiN (ci := 9) (k := 4) hx5 zcl_9 (Nat.le_of_ble_eq_true rfl) zf_X4_28 fk_364 dX4_begin_45 ?_
    refine j_istore_n dX4_begin_48 [(2, pI x5), (0, pR v0), (1, pR v1)] (Nat.le_of_ble_eq_true rfl) rfl ?_
    refine j_sub [1, 2, 0] _ rfl (t4_begin_l49 v0 v1 ?_ NN x5 u3 hf)
    · intro q6 hf
      replace hf := Option.some.inj hf
      subst hf
      exact j_return (bC_mv G A) ⟨Nat.le_refl 0, Nat.le_refl 0⟩ rfl dX4_begin_80
  · replace hf := it h12 hf
    refine j_aload_n dX4_begin_21 0 rfl ?_
    obtain ⟨x7, hx7, hf⟩ := ob hf
    refine c_geta (ci := 4) (k := 0) hx7 zcl_4 (Nat.le_of_ble_eq_true rfl) zf_X4_9 fk_160 dX4_begin_22 ?_
    refine j_aload_n dX4_begin_25 0 rfl ?_
    refine j_dup dX4_begin_26 rfl ?_
    obtain ⟨x8, hx8, hf⟩ := ob hf
    refine c_geti (ci := 4) (k := 1) hx8 zcl_4 (Nat.le_of_ble_eq_true rfl) zf_X4_15 fk_161 dX4_begin_27 ?_
    refine j_dup_x1 dX4_begin_30 rfl rfl ?_
    refine j_iconst dX4_begin_31 ?_
    refine j_iadd dX4_begin_32 ?_
    obtain ⟨u9, hu9, hf⟩ := ob hf
    refine c_puti (ci := 4) (k := 1) hu9 zcl_4 (Nat.le_of_ble_eq_true rfl) zf_X4_15 fk_161 rfl fits_I dX4_begin_33 ?_
    refine j_aload_n dX4_begin_36 1 rfl ?_
    obtain ⟨x10, hx10, hf⟩ := ob hf
    refine c_getiN (ci := 9) (k := 4) hx10 zcl_9 (Nat.le_of_ble_eq_true rfl) zf_X4_28 fk_364 dX4_begin_37 ?_
    obtain ⟨u11, hu11, hf⟩ := ob hf
    refine c_iast hu11 dX4_begin_40 ?_
    refine j_goto 80 dX4_begin_41 (by decide) ?_
    replace hf := Option.some.inj hf
    subst hf
    exact j_return (bC_mv G A) ⟨Nat.le_refl 0, Nat.le_refl 0⟩ rfl dX4_begin_80
theorem t4_cutOut_l30 {G : CG} {A : Nat → Prop} {l : Launch} {a : List PV} {mc ms ce sl : Nat} {r : Option Nat × Sg} {c0 n0 : Nat} {Kf : Sg → Option ((Option Nat × Sg) × Nat × Nat)} (v0 : Option Nat) (v1 : Option Nat) (hK0 : ∀ q : Sg, Kf q = some (r, c0, n0) → JW kC (bC G A) A l D4_cutOut a (jQ (bC G A) A a (some (pR r.1)) r.2 mc ms) mc ms q ce sl 56 [(1, pR v1)] []) : ∀ (n : Nat) (v2 : Int) (u : Sg), ((f4_cutOut_l30 G v0 v1 n v2 u).bind Kf = some (r, c0, n0)) → JW kC (bC G A) A l D4_cutOut a (jQ (bC G A) A a (some (pR r.1)) r.2 mc ms) mc ms u ce sl 30 [(0, pR v0), (1, pR v1), (2, pI v2)] [] := by
  intro n
  induction n with
  | zero => intro v2 u hf; exact onb hf
  | succ n ih =>
    intro v2 u hf
    unfold f4_cutOut_l30 at hf
    refine j_iload_n dX4_cutOut_30 2 rfl ?_
    refine j_aload_n dX4_cutOut_31 0 rfl ?_
    obtain ⟨x1, hx1, hf⟩ := obb hf
    refine c_geti (ci := 4) (k := 1) hx1 zcl_4 (Nat.le_of_ble_eq_true rfl) zf_X4_15 fk_161 dX4_cutOut_32 ?_
    refine j_icmp_ge (w32 v2) (w32 x1) rfl rfl 56 dX4_cutOut_35 (by decide) (fun h6 => ?_) (fun h6 => ?_)
    · replace hf := itb h6 hf
      exact j_sub [1] _ rfl (hK0 u hf)
    · replace hf := ieb h6 hf
      refine j_aload_n dX4_cutOut_38 1 rfl ?_
      obtain ⟨x2, hx2, hf⟩ := obb hf
      refine c_geta (ci := 4) (k := 0) hx2 zcl_4 (Nat.le_of_ble_eq_true rfl) zf_X4_9 fk_160 dX4_cutOut_39 ?_
      refine j_iload_n dX4_cutOut_42 2 rfl ?_
      refine j_aload_n dX4_cutOut_43 0 rfl ?_
      obtain ⟨x3, hx3, hf⟩ := obb hf
      refine c_geta (ci := 4) (k := 0) hx3 zcl_4 (Nat.le_of_ble_eq_true rfl) zf_X4_9 fk_160 dX4_cutOut_44 ?_
      refine j_iload_n dX4_cutOut_47 2 rfl ?_
      obtain ⟨x4, hx4, hf⟩ := obb hf
      refine c_iald hx4 dX4_cutOut_48 ?_
      obtain ⟨u5, hu5, hf⟩ := obb hf
      refine c_iast hu5 dX4_cutOut_49 ?_
      refine j_iinc dX4_cutOut_50 2 rfl [(2, pI (v2 + 1)), (0, pR v0), (1, pR v1)] (Nat.le_of_ble_eq_true rfl) rfl ?_
      refine j_goto 30 dX4_cutOut_53 (by decide) ?_
      exact j_sub [1, 2, 0] _ rfl (ih (v2 + 1) u5 hf)
theorem t4_cutOut {G : CG} {A : Nat → Prop} {l : Launch} {r : Option Nat × Sg} {c0 n0 : Nat} (v0 : Option Nat) (u : Sg) (hf : f4_cutOut G v0 u = some (r, c0, n0)) : JM kC (bC G A) A l yX4_cutOut D4_cutOut [pR v0] u (some (pR r.1)) r.2 c0 n0 := by
  refine j_met (lv0 := [(0, pR v0)]) ⟨pl_X4, rfl, rfl, (Nat.le_of_ble_eq_true rfl), rfl⟩ ?_
  have hcs : 0 + c0 ≤ c0 ∧ 0 + n0 ≤ n0 := ⟨by omega, by omega⟩
  unfold f4_cutOut at hf
  obtain ⟨q1, kq1, mq1, k_q1, m_q1, hq1, hf, hkq1, hmq1⟩ := bdU_s hf
  obtain ⟨hczq1, hcs⟩ := hcs_step hcs hkq1 hmq1
  refine c_new (ci := 4) hq1 zcl_4 zmk_4 q1192 dX4_cutOut_0 hczq1 ?_
  refine j_dup dX4_cutOut_3 rfl ?_
  refine j_aload_n dX4_cutOut_4 0 rfl ?_
  obtain ⟨x2, hx2, hf⟩ := ob hf
  refine c_geti (ci := 4) (k := 1) hx2 zcl_4 (Nat.le_of_ble_eq_true rfl) zf_X4_15 fk_161 dX4_cutOut_5 ?_
  obtain ⟨q3, kq3, mq3, k_q3, m_q3, hq3, hf, hkq3, hmq3⟩ := bdU_s hf
  obtain ⟨hczq3, hcs⟩ := hcs_step hcs hkq3 hmq3
  refine c_callI [pI x2] [pR (some q1.1)] _ (t4_init (some q1.1) x2 q1.2 hq3) ⟨q1193, q301, q135, q302, rfl, rfl⟩ dv4_init rfl ⟨(Nat.le_of_ble_eq_true rfl), (Nat.le_of_ble_eq_true rfl)⟩ rfl (Nat.le_of_ble_eq_true rfl) dX4_cutOut_8 hczq3 ?_
  refine j_astore_n dX4_cutOut_11 [(1, pR (some q1.1)), (0, pR v0)] (Nat.le_of_ble_eq_true rfl) rfl ?_
  refine j_aload_n dX4_cutOut_12 0 rfl ?_
  refine j_aload_n dX4_cutOut_13 1 rfl ?_
  obtain ⟨x4, hx4, hf⟩ := ob hf
  refine c_geti (ci := 4) (k := 1) hx4 zcl_4 (Nat.le_of_ble_eq_true rfl) zf_X4_15 fk_161 dX4_cutOut_14 ?_
  obtain ⟨u5, hu5, hf⟩ := ob hf
  refine c_puti (ci := 4) (k := 1) hu5 zcl_4 (Nat.le_of_ble_eq_true rfl) zf_X4_15 fk_161 rfl fits_I dX4_cutOut_17 ?_
  refine j_aload_n dX4_cutOut_20 0 rfl ?_
  refine j_aload_n dX4_cutOut_21 1 rfl ?_
  obtain ⟨x6, hx6, hf⟩ := ob hf
  refine c_geti (ci := 4) (k := 2) hx6 zcl_4 (Nat.le_of_ble_eq_true rfl) zf_X4_24 fk_162 dX4_cutOut_22 ?_
  obtain ⟨u7, hu7, hf⟩ := ob hf
  refine c_puti (ci := 4) (k := 2) hu7 zcl_4 (Nat.le_of_ble_eq_true rfl) zf_X4_24 fk_162 rfl fits_I dX4_cutOut_25 ?_
  refine j_iconst dX4_cutOut_28 ?_
  refine j_istore_n dX4_cutOut_29 [(2, pI 0), (1, pR (some q1.1)), (0, pR v0)] (Nat.le_of_ble_eq_true rfl) rfl ?_
  refine j_sub [2, 1, 0] _ rfl (t4_cutOut_l30 v0 (some q1.1) ?_ NN 0 u7 hf)
  · intro q8 hf
    refine j_aload_n dX4_cutOut_56 0 rfl ?_
    replace hf := retU hf
    subst hf
    exact j_areturn (bC_mv G A) (hcs_ret (x := ()) (r := ()) hcs) rfl (Or.inl ⟨_, rfl⟩) dX4_cutOut_57
theorem t11_part {G : CG} {A : Nat → Prop} {l : Launch} {d : Nat} (rc : Option Nat → Int → Option Nat → Sg → Option Sg) (hrc : ∀ (r9 : Option Nat) (y0 : Int) (y1 : Option Nat) (u9 u8 : Sg), rc r9 y0 y1 u9 = some u8 → VD G A l xv_part (20 + d) (300 + 40 * d) r9 [pI y0, pR y1] u9 none u8) {r : Sg} (v0 : Option Nat) (v1 : Int) (v2 : Option Nat) (u : Sg) (hf : f11_part G rc v0 v1 v2 u = some r) : JM kC (bC G A) A l yX11_part (D11_part d) [pR v0, pI v1, pR v2] u none r 0 0 := by
  refine j_met (lv0 := [(0, pR v0), (1, pI v1), (2, pR v2)]) ⟨pl_X11, rfl, rfl, (Nat.le_of_ble_eq_true rfl), rfl⟩ ?_
  unfold f11_part at hf
  refine j_aload_n dX11_part_0 0 rfl ?_
  obtain ⟨x1, hx1, hf⟩ := ob hf
  refine c_geta (ci := 11) (k := 0) hx1 zcl_11 (Nat.le_of_ble_eq_true rfl) zf_X11_7 fk_440 dX11_part_1 ?_
  refine j_iload_n dX11_part_4 1 rfl ?_
  refine j_aload_n dX11_part_5 2 rfl ?_
  obtain ⟨u2, hu2, hf⟩ := ob hf
  refine (hrc x1 v1 v2 u u2 hu2) _ _ _ _ _ _ _ _ _ _ [] _ [] q1176 (by show _ ≤ 21 + d; omega) (by show _ ≤ 300 + 40 * d; omega) rfl rfl (Nat.le_of_ble_eq_true rfl) dX11_part_6 ⟨Nat.le_refl 0, Nat.le_refl 0⟩ ?_
  replace hf := Option.some.inj hf
  subst hf
  exact j_return (bC_mv G A) ⟨Nat.le_refl 0, Nat.le_refl 0⟩ rfl dX11_part_9
theorem t10_part {G : CG} {A : Nat → Prop} {l : Launch} {r : Sg} (v0 : Option Nat) (v1 : Int) (v2 : Option Nat) (u : Sg) (hf : f10_part G v0 v1 v2 u = some r) : JM kC (bC G A) A l yX10_part D10_part [pR v0, pI v1, pR v2] u none r 0 0 := by
  refine j_met (lv0 := [(0, pR v0), (1, pI v1), (2, pR v2)]) ⟨pl_X10, rfl, rfl, (Nat.le_of_ble_eq_true rfl), rfl⟩ ?_
  unfold f10_part at hf
  replace hf := Option.some.inj hf
  subst hf
  exact j_return (bC_mv G A) ⟨Nat.le_refl 0, Nat.le_refl 0⟩ rfl dX10_part_0
theorem t4_add_l24 {G : CG} {A : Nat → Prop} {l : Launch} {a : List PV} {r : Sg} {Kf : Int → Option (Sg)} (v0 : Option Nat) (v1 : Int) (u : Sg) (hK0 : ∀ q : Int, Kf q = some r → JW kC (bC G A) A l D4_add a (jQ (bC G A) A a none r 0 0) 0 0 u 0 0 42 [(0, pR v0), (1, pI v1), (2, pI q)] []) : ∀ (n : Nat) (v2 : Int), ((f4_add_l24 G v0 v1 u n v2).bind Kf = some r) → JW kC (bC G A) A l D4_add a (jQ (bC G A) A a none r 0 0) 0 0 u 0 0 24 [(0, pR v0), (1, pI v1), (2, pI v2)] [] := by
  intro n
  induction n with
  | zero => intro v2 hf; exact onb hf
  | succ n ih =>
    intro v2 hf
    unfold f4_add_l24 at hf
    refine j_aload_n dX4_add_24 0 rfl ?_
    obtain ⟨x1, hx1, hf⟩ := obb hf
    refine c_geta (ci := 4) (k := 0) hx1 zcl_4 (Nat.le_of_ble_eq_true rfl) zf_X4_9 fk_160 dX4_add_25 ?_
    refine j_iload_n dX4_add_28 2 rfl ?_
    refine j_iconst dX4_add_29 ?_
    refine j_isub dX4_add_30 ?_
    obtain ⟨x2, hx2, hf⟩ := obb hf
    refine c_iald hx2 dX4_add_31 ?_
    refine j_iload_n dX4_add_32 1 rfl ?_
    refine j_icmp_le (w32 x2) (w32 v1) rfl rfl 42 dX4_add_33 (by decide) (fun h3 => ?_) (fun h3 => ?_)
    · replace hf := itb h3 hf
      exact j_sub [0, 1, 2] _ rfl (hK0 v2 hf)
    · replace hf := ieb h3 hf
      refine j_iinc dX4_add_36 2 rfl [(2, pI (v2 + (-1))), (0, pR v0), (1, pI v1)] (Nat.le_of_ble_eq_true rfl) rfl ?_
      refine j_goto 24 dX4_add_39 (by decide) ?_
      exact j_sub [1, 2, 0] _ rfl (ih (v2 + (-1)) hf)
theorem t4_add_l60 {G : CG} {A : Nat → Prop} {l : Launch} {a : List PV} {r : Sg} {Kf : Sg → Option (Sg)} (v0 : Option Nat) (v1 : Int) (v2 : Int) (hK0 : ∀ q : Sg, Kf q = some r → JW kC (bC G A) A l D4_add a (jQ (bC G A) A a none r 0 0) 0 0 q 0 0 85 [(0, pR v0), (1, pI v1), (2, pI v2)] []) : ∀ (n : Nat) (v3 : Int) (u : Sg), ((f4_add_l60 G v0 v1 v2 n v3 u).bind Kf = some r) → JW kC (bC G A) A l D4_add a (jQ (bC G A) A a none r 0 0) 0 0 u 0 0 60 [(0, pR v0), (1, pI v1), (2, pI v2), (3, pI v3)] [] := by
  intro n
  induction n with
  | zero => intro v3 u hf; exact onb hf
  | succ n ih =>
    intro v3 u hf
    unfold f4_add_l60 at hf
    refine j_iload_n dX4_add_60 3 rfl ?_
    refine j_iload_n dX4_add_61 2 rfl ?_
    refine j_icmp_le (w32 v3) (w32 v2) rfl rfl 85 dX4_add_62 (by decide) (fun h5 => ?_) (fun h5 => ?_)
    · replace hf := itb h5 hf
      exact j_sub [0, 1, 2] _ rfl (hK0 u hf)
    · replace hf := ieb h5 hf
      refine j_aload_n dX4_add_65 0 rfl ?_
      obtain ⟨x1, hx1, hf⟩ := obb hf
      refine c_geta (ci := 4) (k := 0) hx1 zcl_4 (Nat.le_of_ble_eq_true rfl) zf_X4_9 fk_160 dX4_add_66 ?_
      refine j_iload_n dX4_add_69 3 rfl ?_
      refine j_aload_n dX4_add_70 0 rfl ?_
      obtain ⟨x2, hx2, hf⟩ := obb hf
      refine c_geta (ci := 4) (k := 0) hx2 zcl_4 (Nat.le_of_ble_eq_true rfl) zf_X4_9 fk_160 dX4_add_71 ?_
      refine j_iload_n dX4_add_74 3 rfl ?_
      refine j_iconst dX4_add_75 ?_
      refine j_isub dX4_add_76 ?_
      obtain ⟨x3, hx3, hf⟩ := obb hf
      refine c_iald hx3 dX4_add_77 ?_
      obtain ⟨u4, hu4, hf⟩ := obb hf
      refine c_iast hu4 dX4_add_78 ?_
      refine j_iinc dX4_add_79 3 rfl [(3, pI (v3 + (-1))), (0, pR v0), (1, pI v1), (2, pI v2)] (Nat.le_of_ble_eq_true rfl) rfl ?_
      refine j_goto 60 dX4_add_82 (by decide) ?_
      exact j_sub [1, 2, 3, 0] _ rfl (ih (v3 + (-1)) u4 hf)
theorem t4_add {G : CG} {A : Nat → Prop} {l : Launch} {r : Sg} (v0 : Option Nat) (v1 : Int) (u : Sg) (hf : f4_add G v0 v1 u = some r) : JM kC (bC G A) A l yX4_add D4_add [pR v0, pI v1] u none r 0 0 := by
  refine j_met (lv0 := [(0, pR v0), (1, pI v1)]) ⟨pl_X4, rfl, rfl, (Nat.le_of_ble_eq_true rfl), rfl⟩ ?_
  unfold f4_add at hf
  refine j_iload_n dX4_add_0 1 rfl ?_
  refine j_aload_n dX4_add_1 0 rfl ?_
  obtain ⟨x1, hx1, hf⟩ := ob hf
  refine c_geta (ci := 4) (k := 0) hx1 zcl_4 (Nat.le_of_ble_eq_true rfl) zf_X4_9 fk_160 dX4_add_2 ?_
  refine j_iconst dX4_add_5 ?_
  obtain ⟨x2, hx2, hf⟩ := ob hf
  refine c_iald hx2 dX4_add_6 ?_
  refine j_icmp_le (w32 v1) (w32 x2) rfl rfl 18 dX4_add_7 (by decide) (fun h16 => ?_) (fun h16 => ?_)
  · replace hf := it h16 hf
    replace hf := Option.some.inj hf
    subst hf
    exact j_return (bC_mv G A) ⟨Nat.le_refl 0, Nat.le_refl 0⟩ rfl dX4_add_18
  · replace hf := ie h16 hf
    refine j_iload_n dX4_add_10 1 rfl ?_
    refine j_aload_n dX4_add_11 0 rfl ?_
    obtain ⟨x3, hx3, hf⟩ := ob hf
    refine c_geti (ci := 4) (k := 2) hx3 zcl_4 (Nat.le_of_ble_eq_true rfl) zf_X4_24 fk_162 dX4_add_12 ?_
    refine j_icmp_le (w32 v1) (w32 x3) rfl rfl 19 dX4_add_15 (by decide) (fun h15 => ?_) (fun h15 => ?_)
    · replace hf := it h15 hf
      refine j_aload_n dX4_add_19 0 rfl ?_
      obtain ⟨x4, hx4, hf⟩ := ob hf
      refine c_geti (ci := 4) (k := 1) hx4 zcl_4 (Nat.le_of_ble_eq_true rfl) zf_X4_15 fk_161 dX4_add_20 ?_
      refine j_istore_n dX4_add_23 [(2, pI x4), (0, pR v0), (1, pI v1)] (Nat.le_of_ble_eq_true rfl) rfl ?_
      refine j_sub [1, 2, 0] _ rfl (t4_add_l24 v0 v1 u ?_ NN x4 hf)
      · intro q5 hf
        refine j_aload_n dX4_add_42 0 rfl ?_
        obtain ⟨x6, hx6, hf⟩ := ob hf
        refine c_geta (ci := 4) (k := 0) hx6 zcl_4 (Nat.le_of_ble_eq_true rfl) zf_X4_9 fk_160 dX4_add_43 ?_
        refine j_iload_n dX4_add_46 2 rfl ?_
        refine j_iconst dX4_add_47 ?_
        refine j_isub dX4_add_48 ?_
        obtain ⟨x7, hx7, hf⟩ := ob hf
        refine c_iald hx7 dX4_add_49 ?_
        refine j_iload_n dX4_add_50 1 rfl ?_
        refine j_icmp_ne (w32 x7) (w32 v1) rfl rfl 55 dX4_add_51 (by decide) (fun h14 => ?_) (fun h14 => ?_)
        · replace hf := ie h14 hf
          refine j_aload_n dX4_add_55 0 rfl ?_
          obtain ⟨x8, hx8, hf⟩ := ob hf
          refine c_geti (ci := 4) (k := 1) hx8 zcl_4 (Nat.le_of_ble_eq_true rfl) zf_X4_15 fk_161 dX4_add_56 ?_
          refine j_istore_n dX4_add_59 [(3, pI x8), (0, pR v0), (1, pI v1), (2, pI q5)] (Nat.le_of_ble_eq_true rfl) rfl ?_
          refine j_sub [1, 2, 3, 0] _ rfl (t4_add_l60 v0 v1 q5 ?_ NN x8 u hf)
          · intro q9 hf
            refine j_aload_n dX4_add_85 0 rfl ?_
            obtain ⟨x10, hx10, hf⟩ := ob hf
            refine c_geta (ci := 4) (k := 0) hx10 zcl_4 (Nat.le_of_ble_eq_true rfl) zf_X4_9 fk_160 dX4_add_86 ?_
            refine j_iload_n dX4_add_89 2 rfl ?_
            refine j_iload_n dX4_add_90 1 rfl ?_
            obtain ⟨u11, hu11, hf⟩ := ob hf
            refine c_iast hu11 dX4_add_91 ?_
            refine j_aload_n dX4_add_92 0 rfl ?_
            refine j_dup dX4_add_93 rfl ?_
            obtain ⟨x12, hx12, hf⟩ := ob hf
            refine c_geti (ci := 4) (k := 1) hx12 zcl_4 (Nat.le_of_ble_eq_true rfl) zf_X4_15 fk_161 dX4_add_94 ?_
            refine j_iconst dX4_add_97 ?_
            refine j_iadd dX4_add_98 ?_
            obtain ⟨u13, hu13, hf⟩ := ob hf
            refine c_puti (ci := 4) (k := 1) hu13 zcl_4 (Nat.le_of_ble_eq_true rfl) zf_X4_15 fk_161 rfl fits_I dX4_add_99 ?_
            replace hf := Option.some.inj hf
            subst hf
            exact j_return (bC_mv G A) ⟨Nat.le_refl 0, Nat.le_refl 0⟩ rfl dX4_add_102
        · replace hf := it h14 hf
          replace hf := Option.some.inj hf
          subst hf
          exact j_return (bC_mv G A) ⟨Nat.le_refl 0, Nat.le_refl 0⟩ rfl dX4_add_54
    · replace hf := ie h15 hf
      replace hf := Option.some.inj hf
      subst hf
      exact j_return (bC_mv G A) ⟨Nat.le_refl 0, Nat.le_refl 0⟩ rfl dX4_add_18
theorem t14_part_b37 {G : CG} {A : Nat → Prop} {l : Launch} {a : List PV} {r : Sg} (v0 : Option Nat) (v2 : Option Nat) (u : Sg) (hf : f14_part_b37 G v0 v2 u = some r) : JW kC (bC G A) A l D14_part a (jQ (bC G A) A a none r 0 0) 0 0 u 0 0 37 [(0, pR v0), (2, pR v2)] [] := by
  unfold f14_part_b37 at hf
  refine j_aload_n dX14_part_37 0 rfl ?_
  obtain ⟨x1, hx1, hf⟩ := ob hf
  refine c_geta (ci := 14) (k := 1) hx1 zcl_14 (Nat.le_of_ble_eq_true rfl) zf_X14_13 fk_561 dX14_part_38 ?_
  refine c_gets 1 rfl q1172 dX14_part_41 ?_
  refine j_acmp_eq 67 dX14_part_44 (by decide) (fun h7 => ?_) (fun h7 => ?_)
  · replace hf := it h7 hf
    replace hf := Option.some.inj hf
    subst hf
    exact j_return (bC_mv G A) ⟨Nat.le_refl 0, Nat.le_refl 0⟩ rfl dX14_part_67
  · replace hf := ie h7 hf
    refine j_aload_n dX14_part_47 0 rfl ?_
    obtain ⟨x2, hx2, hf⟩ := ob hf
    refine c_geta (ci := 14) (k := 1) hx2 zcl_14 (Nat.le_of_ble_eq_true rfl) zf_X14_13 fk_561 dX14_part_48 ?_
    refine c_gets 4 rfl q1173 dX14_part_51 ?_
    refine j_acmp_eq 67 dX14_part_54 (by decide) (fun h6 => ?_) (fun h6 => ?_)
    · replace hf := it h6 hf
      replace hf := Option.some.inj hf
      subst hf
      exact j_return (bC_mv G A) ⟨Nat.le_refl 0, Nat.le_refl 0⟩ rfl dX14_part_67
    · replace hf := ie h6 hf
      refine j_aload_n dX14_part_57 1 rfl ?_
      refine j_aload_n dX14_part_58 0 rfl ?_
      obtain ⟨x3, hx3, hf⟩ := ob hf
      refine c_geti (ci := 14) (k := 2) hx3 zcl_14 (Nat.le_of_ble_eq_true rfl) zf_X14_17 fk_562 dX14_part_59 ?_
      refine j_iconst dX14_part_62 ?_
      refine j_iadd dX14_part_63 ?_
      obtain ⟨b4, hb4, hf⟩ := ob hf
      obtain ⟨eb4, tb4⟩ := ztg_s hb4
      obtain ⟨u5, hu5, hf⟩ := ob hf
      refine a_Vv [pI (x3 + 1)] [] (t4_add (some b4) (x3 + 1) u hu5) ⟨q1168, q1169, q1170, q135, q1171⟩ dv4_add rfl ⟨(Nat.le_of_ble_eq_true rfl), (Nat.le_of_ble_eq_true rfl)⟩ (c_recv zcl_4 tb4) (by rw [← eb4]; rfl) (Nat.le_of_ble_eq_true rfl) dX14_part_64 ⟨Nat.le_refl 0, Nat.le_refl 0⟩ ?_
      replace hf := Option.some.inj hf
      subst hf
      exact j_return (bC_mv G A) ⟨Nat.le_refl 0, Nat.le_refl 0⟩ rfl dX14_part_67
theorem t14_part {G : CG} {A : Nat → Prop} {l : Launch} {r : Sg} (v0 : Option Nat) (v1 : Int) (v2 : Option Nat) (u : Sg) (hf : f14_part G v0 v1 v2 u = some r) : JM kC (bC G A) A l yX14_part D14_part [pR v0, pI v1, pR v2] u none r 0 0 := by
  refine j_met (lv0 := [(0, pR v0), (1, pI v1), (2, pR v2)]) ⟨pl_X14, rfl, rfl, (Nat.le_of_ble_eq_true rfl), rfl⟩ ?_
  unfold f14_part at hf
  refine j_iload_n dX14_part_0 1 rfl ?_
  refine j_aload_n dX14_part_1 0 rfl ?_
  obtain ⟨x1, hx1, hf⟩ := ob hf
  refine c_geti (ci := 14) (k := 0) hx1 zcl_14 (Nat.le_of_ble_eq_true rfl) zf_X14_7 fk_560 dX14_part_2 ?_
  refine j_icmp_eq (w32 v1) (w32 x1) rfl rfl 9 dX14_part_5 (by decide) (fun h9 => ?_) (fun h9 => ?_)
  · replace hf := it h9 hf
    refine j_aload_n dX14_part_9 0 rfl ?_
    obtain ⟨x2, hx2, hf⟩ := ob hf
    refine c_geta (ci := 14) (k := 1) hx2 zcl_14 (Nat.le_of_ble_eq_true rfl) zf_X14_13 fk_561 dX14_part_10 ?_
    refine c_gets 2 rfl q1166 dX14_part_13 ?_
    refine j_acmp_eq 37 dX14_part_16 (by decide) (fun h8 => ?_) (fun h8 => ?_)
    · replace hf := it h8 hf
      exact j_sub [0, 2] _ rfl (t14_part_b37 v0 v2 u hf)
    · replace hf := ie h8 hf
      refine j_aload_n dX14_part_19 0 rfl ?_
      obtain ⟨x3, hx3, hf⟩ := ob hf
      refine c_geta (ci := 14) (k := 1) hx3 zcl_14 (Nat.le_of_ble_eq_true rfl) zf_X14_13 fk_561 dX14_part_20 ?_
      refine c_gets 3 rfl q1167 dX14_part_23 ?_
      refine j_acmp_eq 37 dX14_part_26 (by decide) (fun h7 => ?_) (fun h7 => ?_)
      · replace hf := it h7 hf
        exact j_sub [0, 2] _ rfl (t14_part_b37 v0 v2 u hf)
      · replace hf := ie h7 hf
        refine j_aload_n dX14_part_29 2 rfl ?_
        refine j_aload_n dX14_part_30 0 rfl ?_
        obtain ⟨x4, hx4, hf⟩ := ob hf
        refine c_geti (ci := 14) (k := 2) hx4 zcl_14 (Nat.le_of_ble_eq_true rfl) zf_X14_17 fk_562 dX14_part_31 ?_
        obtain ⟨b5, hb5, hf⟩ := ob hf
        obtain ⟨eb5, tb5⟩ := ztg_s hb5
        obtain ⟨u6, hu6, hf⟩ := ob hf
        refine a_Vv [pI x4] [] (t4_add (some b5) x4 u hu6) ⟨q1168, q1169, q1170, q135, q1171⟩ dv4_add rfl ⟨(Nat.le_of_ble_eq_true rfl), (Nat.le_of_ble_eq_true rfl)⟩ (c_recv zcl_4 tb5) (by rw [← eb5]; rfl) (Nat.le_of_ble_eq_true rfl) dX14_part_34 ⟨Nat.le_refl 0, Nat.le_refl 0⟩ ?_
        exact j_sub [0, 2] _ rfl (t14_part_b37 v0 v2 u6 hf)
  · replace hf := ie h9 hf
    replace hf := Option.some.inj hf
    subst hf
    exact j_return (bC_mv G A) ⟨Nat.le_refl 0, Nat.le_refl 0⟩ rfl dX14_part_8
theorem t15_part_l2 {G : CG} {A : Nat → Prop} {l : Launch} {a : List PV} {d : Nat} (rc : Option Nat → Int → Option Nat → Sg → Option Sg) (hrc : ∀ (r9 : Option Nat) (y0 : Int) (y1 : Option Nat) (u9 u8 : Sg), rc r9 y0 y1 u9 = some u8 → VD G A l xv_part (20 + d) (300 + 40 * d) r9 [pI y0, pR y1] u9 none u8) {r : Sg} {Kf : Sg → Option (Sg)} (v0 : Option Nat) (v1 : Int) (v2 : Option Nat) (hK0 : ∀ q : Sg, Kf q = some r → JW kC (bC G A) A l (D15_part d) a (jQ (bC G A) A a none r 0 0) 0 0 q 0 0 39 [] []) : ∀ (n : Nat) (v3 : Int) (u : Sg), ((f15_part_l2 G rc v0 v1 v2 n v3 u).bind Kf = some r) → JW kC (bC G A) A l (D15_part d) a (jQ (bC G A) A a none r 0 0) 0 0 u 0 0 2 [(0, pR v0), (1, pI v1), (2, pR v2), (3, pI v3)] [] := by
  intro n
  induction n with
  | zero => intro v3 u hf; exact onb hf
  | succ n ih =>
    intro v3 u hf
    unfold f15_part_l2 at hf
    refine j_iload_n dX15_part_2 3 rfl ?_
    refine j_aload_n dX15_part_3 0 rfl ?_
    obtain ⟨x1, hx1, hf⟩ := obb hf
    refine c_geta (ci := 15) (k := 1) hx1 zcl_15 (Nat.le_of_ble_eq_true rfl) zf_X15_10 fk_601 dX15_part_4 ?_
    obtain ⟨b2, hb2, hf⟩ := obb hf
    obtain ⟨eb2, tb2⟩ := ztg_s hb2
    obtain ⟨x3, hx3, hf⟩ := obb hf
    refine a_Fr (x := ix_0) [] [pI v3] (tJ2_size (some b2) u hx3) ⟨q1159, q559, q561, q131, q563⟩ iF_0 df_0 rfl ⟨by show 0 + 1 ≤ 21 + d; omega, by show 8 + (1 + 11) + 0 ≤ 300 + 40 * d; omega⟩ zcl_5 rfl tb2 (by rw [← eb2]; rfl) (Nat.le_of_ble_eq_true rfl) dX15_part_7 ⟨Nat.le_refl 0, Nat.le_refl 0⟩ ?_
    refine j_icmp_ge (w32 v3) (w32 x3) rfl rfl 39 dX15_part_12 (by decide) (fun h9 => ?_) (fun h9 => ?_)
    · replace hf := itb h9 hf
      exact j_sub [] _ rfl (hK0 u hf)
    · replace hf := ieb h9 hf
      refine j_aload_n dX15_part_15 0 rfl ?_
      obtain ⟨x4, hx4, hf⟩ := obb hf
      refine c_geta (ci := 15) (k := 1) hx4 zcl_15 (Nat.le_of_ble_eq_true rfl) zf_X15_10 fk_601 dX15_part_16 ?_
      refine j_iload_n dX15_part_19 3 rfl ?_
      obtain ⟨b5, hb5, hf⟩ := obb hf
      obtain ⟨eb5, tb5⟩ := ztg_s hb5
      obtain ⟨x6, hx6, hf⟩ := obb hf
      refine a_Fr (x := ix_1) [pI v3] [] (tJ2_get (some b5) v3 u hx6) ⟨q1161, q813, q815, q131, q817⟩ iF_1 df_1 rfl ⟨by show 2 + 1 ≤ 21 + d; omega, by show 8 + (2 + 11) + 43 ≤ 300 + 40 * d; omega⟩ zcl_5 rfl tb5 (by rw [← eb5]; rfl) (Nat.le_of_ble_eq_true rfl) dX15_part_20 ⟨Nat.le_refl 0, Nat.le_refl 0⟩ ?_
      obtain ⟨y7, hy7, hf⟩ := obb hf
      refine c_cast hy7 zok_Cond q1162 dX15_part_25 ?_
      refine j_iload_n dX15_part_28 1 rfl ?_
      refine j_aload_n dX15_part_29 2 rfl ?_
      obtain ⟨u8, hu8, hf⟩ := obb hf
      refine (hrc x6 v1 v2 u u8 hu8) _ _ _ _ _ _ _ _ _ _ [] _ [] q1163 (by show _ ≤ 21 + d; omega) (by show _ ≤ 300 + 40 * d; omega) rfl rfl (Nat.le_of_ble_eq_true rfl) dX15_part_30 ⟨Nat.le_refl 0, Nat.le_refl 0⟩ ?_
      refine j_iinc dX15_part_33 3 rfl [(3, pI (v3 + 1)), (0, pR v0), (1, pI v1), (2, pR v2)] (Nat.le_of_ble_eq_true rfl) rfl ?_
      refine j_goto 2 dX15_part_36 (by decide) ?_
      exact j_sub [1, 2, 3, 0] _ rfl (ih (v3 + 1) u8 hf)
theorem t15_part {G : CG} {A : Nat → Prop} {l : Launch} {d : Nat} (rc : Option Nat → Int → Option Nat → Sg → Option Sg) (hrc : ∀ (r9 : Option Nat) (y0 : Int) (y1 : Option Nat) (u9 u8 : Sg), rc r9 y0 y1 u9 = some u8 → VD G A l xv_part (20 + d) (300 + 40 * d) r9 [pI y0, pR y1] u9 none u8) {r : Sg} (v0 : Option Nat) (v1 : Int) (v2 : Option Nat) (u : Sg) (hf : f15_part G rc v0 v1 v2 u = some r) : JM kC (bC G A) A l yX15_part (D15_part d) [pR v0, pI v1, pR v2] u none r 0 0 := by
  refine j_met (lv0 := [(0, pR v0), (1, pI v1), (2, pR v2)]) ⟨pl_X15, rfl, rfl, (Nat.le_of_ble_eq_true rfl), rfl⟩ ?_
  unfold f15_part at hf
  refine j_iconst dX15_part_0 ?_
  refine j_istore_n dX15_part_1 [(3, pI 0), (0, pR v0), (1, pI v1), (2, pR v2)] (Nat.le_of_ble_eq_true rfl) rfl ?_
  refine j_sub [1, 2, 3, 0] _ rfl (t15_part_l2 rc hrc v0 v1 v2 ?_ NN 0 u hf)
  · intro q1 hf
    replace hf := Option.some.inj hf
    subst hf
    exact j_return (bC_mv G A) ⟨Nat.le_refl 0, Nat.le_refl 0⟩ rfl dX15_part_39
theorem tv_part {G : CG} {A : Nat → Prop} {l : Launch} : ∀ (d : Nat) (r : Option Nat) (y0 : Int) (y1 : Option Nat) (u : Sg) (u1 : Sg), kv_part G d r y0 y1 u = some u1 → VD G A l xv_part (20 + d) (300 + 40 * d) r [pI y0, pR y1] u none u1 := by
  intro d
  induction d with
  | zero => intro r y0 y1 u u1 h; cases h
  | succ d ih =>
    intro r y0 y1 u u1 h
    unfold kv_part at h
    obtain ⟨b, hb, h2⟩ := ob h
    clear h
    subst hb
    rcases Decidable.em (zT u b = 12) with ht | ht
    · replace h2 := it ht h2
      exact vd_over (t11_part (kv_part G d) ih (some b) y0 y1 u h2) rfl (by show 21 + d ≤ 20 + (d + 1); omega) (by show 8 + (3 + 11) + (300 + 40 * d) ≤ 300 + 40 * (d + 1); omega) (c_recv zcl_11 ht) dxv_part q1153 q1179 q1174 q154 q1175 q1152 q1180
    replace h2 := ie ht h2
    rcases Decidable.em (zT u b = 13) with ht | ht
    · replace h2 := it ht h2
      exact vd_inh (t10_part (some b) y0 y1 u h2) rfl (by show 0 ≤ 20 + (d + 1); omega) (by show 8 + (3 + 11) + (0) ≤ 300 + 40 * (d + 1); omega) (c_recv zcl_12 ht) dxv_part rfl q1153 q1177 q1152 q153 q1180
    replace h2 := ie ht h2
    rcases Decidable.em (zT u b = 14) with ht | ht
    · replace h2 := it ht h2
      exact vd_inh (t10_part (some b) y0 y1 u h2) rfl (by show 0 ≤ 20 + (d + 1); omega) (by show 8 + (3 + 11) + (0) ≤ 300 + 40 * (d + 1); omega) (c_recv zcl_13 ht) dxv_part rfl q1153 q1154 q1152 q153 q1180
    replace h2 := ie ht h2
    rcases Decidable.em (zT u b = 15) with ht | ht
    · replace h2 := it ht h2
      exact vd_over (t14_part (some b) y0 y1 u h2) rfl (by show 1 ≤ 20 + (d + 1); omega) (by show 8 + (3 + 11) + (23) ≤ 300 + 40 * (d + 1); omega) (c_recv zcl_14 ht) dxv_part q1153 q1178 q1164 q159 q1165 q1152 q1180
    replace h2 := ie ht h2
    rcases Decidable.em (zT u b = 16) with ht | ht
    · replace h2 := it ht h2
      exact vd_over (t15_part (kv_part G d) ih (some b) y0 y1 u h2) rfl (by show 21 + d ≤ 20 + (d + 1); omega) (by show 8 + (4 + 11) + (300 + 40 * d) ≤ 300 + 40 * (d + 1); omega) (c_recv zcl_15 ht) dxv_part q1153 q1155 q1156 q160 q1157 q1152 q1180
    replace h2 := ie ht h2
    cases h2
theorem t6_part_l2 {G : CG} {A : Nat → Prop} {l : Launch} {a : List PV} {r : Sg} {Kf : Sg → Option (Sg)} (v0 : Option Nat) (v1 : Int) (v2 : Option Nat) (hK0 : ∀ q : Sg, Kf q = some r → JW kC (bC G A) A l D6_part a (jQ (bC G A) A a none r 0 0) 0 0 q 0 0 39 [(0, pR v0), (1, pI v1), (2, pR v2)] []) : ∀ (n : Nat) (v3 : Int) (u : Sg), ((f6_part_l2 G v0 v1 v2 n v3 u).bind Kf = some r) → JW kC (bC G A) A l D6_part a (jQ (bC G A) A a none r 0 0) 0 0 u 0 0 2 [(0, pR v0), (1, pI v1), (2, pR v2), (3, pI v3)] [] := by
  intro n
  induction n with
  | zero => intro v3 u hf; exact onb hf
  | succ n ih =>
    intro v3 u hf
    unfold f6_part_l2 at hf
    refine j_iload_n dX6_part_2 3 rfl ?_
    refine j_aload_n dX6_part_3 0 rfl ?_
    obtain ⟨x1, hx1, hf⟩ := obb hf
    refine c_geta (ci := 6) (k := 2) hx1 zcl_6 (Nat.le_of_ble_eq_true rfl) zf_X6_21 fk_242 dX6_part_4 ?_
    obtain ⟨b2, hb2, hf⟩ := obb hf
    obtain ⟨eb2, tb2⟩ := ztg_s hb2
    obtain ⟨x3, hx3, hf⟩ := obb hf
    refine a_Fr (x := ix_0) [] [pI v3] (tJ2_size (some b2) u hx3) ⟨q808, q559, q561, q131, q563⟩ iF_0 df_0 rfl ⟨(Nat.le_of_ble_eq_true rfl), (Nat.le_of_ble_eq_true rfl)⟩ zcl_5 rfl tb2 (by rw [← eb2]; rfl) (Nat.le_of_ble_eq_true rfl) dX6_part_7 ⟨Nat.le_refl 0, Nat.le_refl 0⟩ ?_
    refine j_icmp_ge (w32 v3) (w32 x3) rfl rfl 39 dX6_part_12 (by decide) (fun h9 => ?_) (fun h9 => ?_)
    · replace hf := itb h9 hf
      exact j_sub [0, 1, 2] _ rfl (hK0 u hf)
    · replace hf := ieb h9 hf
      refine j_aload_n dX6_part_15 0 rfl ?_
      obtain ⟨x4, hx4, hf⟩ := obb hf
      refine c_geta (ci := 6) (k := 2) hx4 zcl_6 (Nat.le_of_ble_eq_true rfl) zf_X6_21 fk_242 dX6_part_16 ?_
      refine j_iload_n dX6_part_19 3 rfl ?_
      obtain ⟨b5, hb5, hf⟩ := obb hf
      obtain ⟨eb5, tb5⟩ := ztg_s hb5
      obtain ⟨x6, hx6, hf⟩ := obb hf
      refine a_Fr (x := ix_1) [pI v3] [] (tJ2_get (some b5) v3 u hx6) ⟨q810, q813, q815, q131, q817⟩ iF_1 df_1 rfl ⟨(Nat.le_of_ble_eq_true rfl), (Nat.le_of_ble_eq_true rfl)⟩ zcl_5 rfl tb5 (by rw [← eb5]; rfl) (Nat.le_of_ble_eq_true rfl) dX6_part_20 ⟨Nat.le_refl 0, Nat.le_refl 0⟩ ?_
      obtain ⟨y7, hy7, hf⟩ := obb hf
      refine c_cast hy7 zok_Cond q1150 dX6_part_25 ?_
      refine j_iload_n dX6_part_28 1 rfl ?_
      refine j_aload_n dX6_part_29 2 rfl ?_
      obtain ⟨u8, hu8, hf⟩ := obb hf
      refine (tv_part DD x6 v1 v2 u u8 hu8) _ _ _ _ _ _ _ _ _ _ [] _ [] q1151 (Nat.le_of_ble_eq_true rfl) (Nat.le_of_ble_eq_true rfl) rfl rfl (Nat.le_of_ble_eq_true rfl) dX6_part_30 ⟨Nat.le_refl 0, Nat.le_refl 0⟩ ?_
      refine j_iinc dX6_part_33 3 rfl [(3, pI (v3 + 1)), (0, pR v0), (1, pI v1), (2, pR v2)] (Nat.le_of_ble_eq_true rfl) rfl ?_
      refine j_goto 2 dX6_part_36 (by decide) ?_
      exact j_sub [1, 2, 3, 0] _ rfl (ih (v3 + 1) u8 hf)
theorem t6_part_l41 {G : CG} {A : Nat → Prop} {l : Launch} {a : List PV} {r : Sg} {Kf : Sg → Option (Sg)} (v0 : Option Nat) (v1 : Int) (v2 : Option Nat) (hK0 : ∀ q : Sg, Kf q = some r → JW kC (bC G A) A l D6_part a (jQ (bC G A) A a none r 0 0) 0 0 q 0 0 81 [(0, pR v0), (1, pI v1), (2, pR v2)] []) : ∀ (n : Nat) (v3 : Int) (u : Sg), ((f6_part_l41 G v0 v1 v2 n v3 u).bind Kf = some r) → JW kC (bC G A) A l D6_part a (jQ (bC G A) A a none r 0 0) 0 0 u 0 0 41 [(0, pR v0), (1, pI v1), (2, pR v2), (3, pI v3)] [] := by
  intro n
  induction n with
  | zero => intro v3 u hf; exact onb hf
  | succ n ih =>
    intro v3 u hf
    unfold f6_part_l41 at hf
    refine j_iload_n dX6_part_41 3 rfl ?_
    refine j_aload_n dX6_part_42 0 rfl ?_
    obtain ⟨x1, hx1, hf⟩ := obb hf
    refine c_geta (ci := 6) (k := 3) hx1 zcl_6 (Nat.le_of_ble_eq_true rfl) zf_X6_24 fk_243 dX6_part_43 ?_
    obtain ⟨b2, hb2, hf⟩ := obb hf
    obtain ⟨eb2, tb2⟩ := ztg_s hb2
    obtain ⟨x3, hx3, hf⟩ := obb hf
    refine a_Fr (x := ix_0) [] [pI v3] (tJ2_size (some b2) u hx3) ⟨q808, q559, q561, q131, q563⟩ iF_0 df_0 rfl ⟨(Nat.le_of_ble_eq_true rfl), (Nat.le_of_ble_eq_true rfl)⟩ zcl_5 rfl tb2 (by rw [← eb2]; rfl) (Nat.le_of_ble_eq_true rfl) dX6_part_46 ⟨Nat.le_refl 0, Nat.le_refl 0⟩ ?_
    refine j_icmp_ge (w32 v3) (w32 x3) rfl rfl 81 dX6_part_51 (by decide) (fun h10 => ?_) (fun h10 => ?_)
    · replace hf := itb h10 hf
      exact j_sub [0, 1, 2] _ rfl (hK0 u hf)
    · replace hf := ieb h10 hf
      refine j_aload_n dX6_part_54 0 rfl ?_
      obtain ⟨x4, hx4, hf⟩ := obb hf
      refine c_geta (ci := 6) (k := 3) hx4 zcl_6 (Nat.le_of_ble_eq_true rfl) zf_X6_24 fk_243 dX6_part_55 ?_
      refine j_iload_n dX6_part_58 3 rfl ?_
      obtain ⟨b5, hb5, hf⟩ := obb hf
      obtain ⟨eb5, tb5⟩ := ztg_s hb5
      obtain ⟨x6, hx6, hf⟩ := obb hf
      refine a_Fr (x := ix_1) [pI v3] [] (tJ2_get (some b5) v3 u hx6) ⟨q810, q813, q815, q131, q817⟩ iF_1 df_1 rfl ⟨(Nat.le_of_ble_eq_true rfl), (Nat.le_of_ble_eq_true rfl)⟩ zcl_5 rfl tb5 (by rw [← eb5]; rfl) (Nat.le_of_ble_eq_true rfl) dX6_part_59 ⟨Nat.le_refl 0, Nat.le_refl 0⟩ ?_
      obtain ⟨y7, hy7, hf⟩ := obb hf
      refine c_cast hy7 zok_Clause q1181 dX6_part_64 ?_
      obtain ⟨x8, hx8, hf⟩ := obb hf
      refine c_getaN (ci := 16) (k := 1) hx8 zcl_16 (Nat.le_of_ble_eq_true rfl) zf_X6_85 fk_641 dX6_part_67 ?_
      refine j_iload_n dX6_part_70 1 rfl ?_
      refine j_aload_n dX6_part_71 2 rfl ?_
      obtain ⟨u9, hu9, hf⟩ := obb hf
      refine (tv_part DD x8 v1 v2 u u9 hu9) _ _ _ _ _ _ _ _ _ _ [] _ [] q1151 (Nat.le_of_ble_eq_true rfl) (Nat.le_of_ble_eq_true rfl) rfl rfl (Nat.le_of_ble_eq_true rfl) dX6_part_72 ⟨Nat.le_refl 0, Nat.le_refl 0⟩ ?_
      refine j_iinc dX6_part_75 3 rfl [(3, pI (v3 + 1)), (0, pR v0), (1, pI v1), (2, pR v2)] (Nat.le_of_ble_eq_true rfl) rfl ?_
      refine j_goto 41 dX6_part_78 (by decide) ?_
      exact j_sub [1, 2, 3, 0] _ rfl (ih (v3 + 1) u9 hf)
theorem t6_part_l83 {G : CG} {A : Nat → Prop} {l : Launch} {a : List PV} {r : Sg} {Kf : Sg → Option (Sg)} (v0 : Option Nat) (v1 : Int) (v2 : Option Nat) (hK0 : ∀ q : Sg, Kf q = some r → JW kC (bC G A) A l D6_part a (jQ (bC G A) A a none r 0 0) 0 0 q 0 0 142 [] []) : ∀ (n : Nat) (v3 : Int) (u : Sg), ((f6_part_l83 G v0 v1 v2 n v3 u).bind Kf = some r) → JW kC (bC G A) A l D6_part a (jQ (bC G A) A a none r 0 0) 0 0 u 0 0 83 [(0, pR v0), (1, pI v1), (2, pR v2), (3, pI v3)] [] := by
  intro n
  induction n with
  | zero => intro v3 u hf; exact onb hf
  | succ n ih =>
    intro v3 u hf
    unfold f6_part_l83 at hf
    refine j_iload_n dX6_part_83 3 rfl ?_
    refine j_aload_n dX6_part_84 0 rfl ?_
    obtain ⟨x1, hx1, hf⟩ := obb hf
    refine c_geta (ci := 6) (k := 4) hx1 zcl_6 (Nat.le_of_ble_eq_true rfl) zf_X6_27 fk_244 dX6_part_85 ?_
    obtain ⟨b2, hb2, hf⟩ := obb hf
    obtain ⟨eb2, tb2⟩ := ztg_s hb2
    obtain ⟨x3, hx3, hf⟩ := obb hf
    refine a_Fr (x := ix_0) [] [pI v3] (tJ2_size (some b2) u hx3) ⟨q808, q559, q561, q131, q563⟩ iF_0 df_0 rfl ⟨(Nat.le_of_ble_eq_true rfl), (Nat.le_of_ble_eq_true rfl)⟩ zcl_5 rfl tb2 (by rw [← eb2]; rfl) (Nat.le_of_ble_eq_true rfl) dX6_part_88 ⟨Nat.le_refl 0, Nat.le_refl 0⟩ ?_
    refine j_icmp_ge (w32 v3) (w32 x3) rfl rfl 142 dX6_part_93 (by decide) (fun h16 => ?_) (fun h16 => ?_)
    · replace hf := itb h16 hf
      exact j_sub [] _ rfl (hK0 u hf)
    · replace hf := ieb h16 hf
      refine j_aload_n dX6_part_96 0 rfl ?_
      obtain ⟨x4, hx4, hf⟩ := obb hf
      refine c_geta (ci := 6) (k := 4) hx4 zcl_6 (Nat.le_of_ble_eq_true rfl) zf_X6_27 fk_244 dX6_part_97 ?_
      refine j_iload_n dX6_part_100 3 rfl ?_
      obtain ⟨b5, hb5, hf⟩ := obb hf
      obtain ⟨eb5, tb5⟩ := ztg_s hb5
      obtain ⟨x6, hx6, hf⟩ := obb hf
      refine a_Fr (x := ix_1) [pI v3] [] (tJ2_get (some b5) v3 u hx6) ⟨q810, q813, q815, q131, q817⟩ iF_1 df_1 rfl ⟨(Nat.le_of_ble_eq_true rfl), (Nat.le_of_ble_eq_true rfl)⟩ zcl_5 rfl tb5 (by rw [← eb5]; rfl) (Nat.le_of_ble_eq_true rfl) dX6_part_101 ⟨Nat.le_refl 0, Nat.le_refl 0⟩ ?_
      obtain ⟨y7, hy7, hf⟩ := obb hf
      refine c_cast hy7 zok_PriceRow q1182 dX6_part_106 ?_
      obtain ⟨x8, hx8, hf⟩ := obb hf
      refine c_getaN (ci := 17) (k := 2) hx8 zcl_17 (Nat.le_of_ble_eq_true rfl) zf_X6_91 fk_682 dX6_part_109 ?_
      refine j_ifnull 136 dX6_part_112 (by decide) (fun h15 => ?_) (fun h15 => ?_)
      · replace hf := itb h15 hf
        refine j_iinc dX6_part_136 3 rfl [(3, pI (v3 + 1)), (0, pR v0), (1, pI v1), (2, pR v2)] (Nat.le_of_ble_eq_true rfl) rfl ?_
        refine j_goto 83 dX6_part_139 (by decide) ?_
        exact j_sub [1, 2, 3, 0] _ rfl (ih (v3 + 1) u hf)
      · replace hf := ieb h15 hf
        refine j_aload_n dX6_part_115 0 rfl ?_
        obtain ⟨x9, hx9, hf⟩ := obb hf
        refine c_geta (ci := 6) (k := 4) hx9 zcl_6 (Nat.le_of_ble_eq_true rfl) zf_X6_27 fk_244 dX6_part_116 ?_
        refine j_iload_n dX6_part_119 3 rfl ?_
        obtain ⟨b10, hb10, hf⟩ := obb hf
        obtain ⟨eb10, tb10⟩ := ztg_s hb10
        obtain ⟨x11, hx11, hf⟩ := obb hf
        refine a_Fr (x := ix_1) [pI v3] [] (tJ2_get (some b10) v3 u hx11) ⟨q810, q813, q815, q131, q817⟩ iF_1 df_1 rfl ⟨(Nat.le_of_ble_eq_true rfl), (Nat.le_of_ble_eq_true rfl)⟩ zcl_5 rfl tb10 (by rw [← eb10]; rfl) (Nat.le_of_ble_eq_true rfl) dX6_part_120 ⟨Nat.le_refl 0, Nat.le_refl 0⟩ ?_
        obtain ⟨y12, hy12, hf⟩ := obb hf
        refine c_cast hy12 zok_PriceRow q1182 dX6_part_125 ?_
        obtain ⟨x13, hx13, hf⟩ := obb hf
        refine c_getaN (ci := 17) (k := 2) hx13 zcl_17 (Nat.le_of_ble_eq_true rfl) zf_X6_91 fk_682 dX6_part_128 ?_
        refine j_iload_n dX6_part_131 1 rfl ?_
        refine j_aload_n dX6_part_132 2 rfl ?_
        obtain ⟨u14, hu14, hf⟩ := obb hf
        refine (tv_part DD x13 v1 v2 u u14 hu14) _ _ _ _ _ _ _ _ _ _ [] _ [] q1151 (Nat.le_of_ble_eq_true rfl) (Nat.le_of_ble_eq_true rfl) rfl rfl (Nat.le_of_ble_eq_true rfl) dX6_part_133 ⟨Nat.le_refl 0, Nat.le_refl 0⟩ ?_
        refine j_iinc dX6_part_136 3 rfl [(3, pI (v3 + 1)), (0, pR v0), (1, pI v1), (2, pR v2)] (Nat.le_of_ble_eq_true rfl) rfl ?_
        refine j_goto 83 dX6_part_139 (by decide) ?_
        exact j_sub [1, 2, 3, 0] _ rfl (ih (v3 + 1) u14 hf)
theorem t6_part {G : CG} {A : Nat → Prop} {l : Launch} {r : Sg} (v0 : Option Nat) (v1 : Int) (v2 : Option Nat) (u : Sg) (hf : f6_part G v0 v1 v2 u = some r) : JM kC (bC G A) A l yX6_part D6_part [pR v0, pI v1, pR v2] u none r 0 0 := by
  refine j_met (lv0 := [(0, pR v0), (1, pI v1), (2, pR v2)]) ⟨pl_X6, rfl, rfl, (Nat.le_of_ble_eq_true rfl), rfl⟩ ?_
  unfold f6_part at hf
  refine j_iconst dX6_part_0 ?_
  refine j_istore_n dX6_part_1 [(3, pI 0), (0, pR v0), (1, pI v1), (2, pR v2)] (Nat.le_of_ble_eq_true rfl) rfl ?_
  refine j_sub [1, 2, 3, 0] _ rfl (t6_part_l2 v0 v1 v2 ?_ NN 0 u hf)
  · intro q1 hf
    refine j_iconst dX6_part_39 ?_
    refine j_istore_n dX6_part_40 [(3, pI 0), (0, pR v0), (1, pI v1), (2, pR v2)] (Nat.le_of_ble_eq_true rfl) rfl ?_
    refine j_sub [1, 2, 3, 0] _ rfl (t6_part_l41 v0 v1 v2 ?_ NN 0 q1 hf)
    · intro q2 hf
      refine j_iconst dX6_part_81 ?_
      refine j_istore_n dX6_part_82 [(3, pI 0), (0, pR v0), (1, pI v1), (2, pR v2)] (Nat.le_of_ble_eq_true rfl) rfl ?_
      refine j_sub [1, 2, 3, 0] _ rfl (t6_part_l83 v0 v1 v2 ?_ NN 0 q2 hf)
      · intro q3 hf
        replace hf := Option.some.inj hf
        subst hf
        exact j_return (bC_mv G A) ⟨Nat.le_refl 0, Nat.le_refl 0⟩ rfl dX6_part_142
theorem t6_isParted_l5 {G : CG} {A : Nat → Prop} {l : Launch} {a : List PV} {mc ms : Nat} {r : Int × Sg} {Kf : Int × Sg → Option ((Int × Sg) × Nat × Nat)} (v0 : Option Nat) (v1 : Option Nat) (hK0 : ∀ (q : Int × Sg) {ce sl c0 n0 : Nat}, ce + c0 ≤ mc ∧ sl + n0 ≤ ms → Kf q = some (r, c0, n0) → JW kC (bC G A) A l D6_isParted a (jQ (bC G A) A a (some (pI r.1)) r.2 mc ms) mc ms q.2 ce sl 80 [(0, pR v0), (1, pR v1), (2, pL q.1)] []) : ∀ (n : Nat) (v2 : Int) (v4 : Int) (u : Sg) {ce sl c0 n0 : Nat}, ce + c0 ≤ mc ∧ sl + n0 ≤ ms → (bdU (f6_isParted_l5 G v0 v1 n v2 v4 u) Kf = some (r, c0, n0)) → JW kC (bC G A) A l D6_isParted a (jQ (bC G A) A a (some (pI r.1)) r.2 mc ms) mc ms u ce sl 5 [(0, pR v0), (1, pR v1), (2, pL v2), (4, pI v4)] [] := by
  intro n
  induction n with
  | zero => intro v2 v4 u ce sl c0 n0 hcs hf; exact onK hf
  | succ n ih =>
    intro v2 v4 u ce sl c0 n0 hcs hf
    unfold f6_isParted_l5 at hf
    refine j_iload dX6_isParted_5 3 rfl ?_
    refine j_aload_n dX6_isParted_7 0 rfl ?_
    obtain ⟨x1, hx1, hf⟩ := obK hf
    refine c_geta (ci := 6) (k := 0) hx1 zcl_6 (Nat.le_of_ble_eq_true rfl) zf_X6_12 fk_240 dX6_isParted_8 ?_
    obtain ⟨b2, hb2, hf⟩ := obK hf
    obtain ⟨eb2, tb2⟩ := ztg_s hb2
    obtain ⟨x3, hx3, hf⟩ := obK hf
    refine a_Fr (x := ix_0) [] [pI v4] (tJ2_size (some b2) u hx3) ⟨q808, q559, q561, q131, q563⟩ iF_0 df_0 rfl ⟨(Nat.le_of_ble_eq_true rfl), (Nat.le_of_ble_eq_true rfl)⟩ zcl_5 rfl tb2 (by rw [← eb2]; rfl) (Nat.le_of_ble_eq_true rfl) dX6_isParted_11 (hcs_ret (x := ()) (r := ()) hcs) ?_
    refine j_icmp_ge (w32 v4) (w32 x3) rfl rfl 80 dX6_isParted_16 (by decide) (fun h16 => ?_) (fun h16 => ?_)
    · replace hf := itK h16 hf
      exact j_sub [0, 1, 2] _ rfl (hK0 (v2, u) hcs (bdU_0 hf))
    · replace hf := ieK h16 hf
      refine j_aload_n dX6_isParted_19 1 rfl ?_
      refine j_iload dX6_isParted_20 3 rfl ?_
      obtain ⟨b4, hb4, hf⟩ := obK hf
      obtain ⟨eb4, tb4⟩ := ztg_s hb4
      obtain ⟨x5, hx5, hf⟩ := obK hf
      refine a_Fr (x := ix_1) [pI v4] [] (tJ2_get (some b4) v4 u hx5) ⟨q810, q813, q815, q131, q817⟩ iF_1 df_1 rfl ⟨(Nat.le_of_ble_eq_true rfl), (Nat.le_of_ble_eq_true rfl)⟩ zcl_5 rfl tb4 (by rw [← eb4]; rfl) (Nat.le_of_ble_eq_true rfl) dX6_isParted_22 (hcs_ret (x := ()) (r := ()) hcs) ?_
      obtain ⟨y6, hy6, hf⟩ := obK hf
      refine c_cast hy6 zok_Starts q1141 dX6_isParted_27 ?_
      refine j_astore dX6_isParted_30 [(5, pR x5), (0, pR v0), (1, pR v1), (2, pL v2), (4, pI v4)] (Nat.le_of_ble_eq_true rfl) rfl ?_
      refine j_aload dX6_isParted_32 0 rfl ?_
      refine j_aload_n dX6_isParted_34 1 rfl ?_
      obtain ⟨x7, hx7, hf⟩ := obK hf
      refine c_geta (ci := 6) (k := 0) hx7 zcl_6 (Nat.le_of_ble_eq_true rfl) zf_X6_12 fk_240 dX6_isParted_35 ?_
      refine j_iload dX6_isParted_38 4 rfl ?_
      obtain ⟨b8, hb8, hf⟩ := obK hf
      obtain ⟨eb8, tb8⟩ := ztg_s hb8
      obtain ⟨x9, hx9, hf⟩ := obK hf
      refine a_Fr (x := ix_1) [pI v4] [pR x5] (tJ2_get (some b8) v4 u hx9) ⟨q810, q813, q815, q131, q817⟩ iF_1 df_1 rfl ⟨(Nat.le_of_ble_eq_true rfl), (Nat.le_of_ble_eq_true rfl)⟩ zcl_5 rfl tb8 (by rw [← eb8]; rfl) (Nat.le_of_ble_eq_true rfl) dX6_isParted_40 (hcs_ret (x := ()) (r := ()) hcs) ?_
      obtain ⟨y10, hy10, hf⟩ := obK hf
      refine c_cast hy10 zok_Fact q828 dX6_isParted_45 ?_
      obtain ⟨b11, hb11, hf⟩ := obK hf
      obtain ⟨eb11, tb11⟩ := ztg_s hb11
      obtain ⟨u12, hu12, hf⟩ := obK hf
      refine a_Vv [pR x9] [] (t4_begin (some b11) x9 u hu12) ⟨q1142, q1143, q1144, q135, q1145⟩ dv4_begin rfl ⟨(Nat.le_of_ble_eq_true rfl), (Nat.le_of_ble_eq_true rfl)⟩ (c_recv zcl_4 tb11) (by rw [← eb11]; rfl) (Nat.le_of_ble_eq_true rfl) dX6_isParted_48 (hcs_ret (x := ()) (r := ()) hcs) ?_
      refine j_aload_n dX6_isParted_51 1 rfl ?_
      refine j_iload dX6_isParted_52 4 rfl ?_
      refine j_aload dX6_isParted_54 0 rfl ?_
      obtain ⟨b13, hb13, hf⟩ := obK hf
      obtain ⟨eb13, tb13⟩ := ztg_s hb13
      obtain ⟨u14, hu14, hf⟩ := obK hf
      refine a_Vv [pI v4, pR x5] [] (t6_part (some b13) v4 x5 u12 hu14) ⟨q1146, q1147, q1148, q145, q1149⟩ dv6_part rfl ⟨(Nat.le_of_ble_eq_true rfl), (Nat.le_of_ble_eq_true rfl)⟩ (c_recv zcl_6 tb13) (by rw [← eb13]; rfl) (Nat.le_of_ble_eq_true rfl) dX6_isParted_56 (hcs_ret (x := ()) (r := ()) hcs) ?_
      refine j_lload_n dX6_isParted_59 3 rfl ?_
      refine j_aload dX6_isParted_60 0 rfl ?_
      obtain ⟨x15, hx15, hf⟩ := obK hf
      refine c_getiN (ci := 4) (k := 1) hx15 zcl_4 (Nat.le_of_ble_eq_true rfl) zf_X6_99 fk_161 dX6_isParted_62 ?_
      refine j_i2l dX6_isParted_65 ?_
      refine j_lmul dX6_isParted_66 ?_
      refine j_ldc2 (z := 1000000) q1183 (by decide) dX6_isParted_67 ?_
      refine j_mmin_long q1184 q1185 q137 q1186 (Nat.le_of_ble_eq_true rfl) (Nat.le_of_ble_eq_true rfl) (Nat.le_of_ble_eq_true rfl) (hcs_ret (x := ()) (r := ()) hcs) dX6_isParted_70 ?_
      refine j_lstore_n dX6_isParted_73 [(2, pL (mn64 (v2 * (w32 x15)) 1000000)), (5, pR x5), (0, pR v0), (1, pR v1), (4, pI v4)] (Nat.le_of_ble_eq_true rfl) rfl ?_
      refine j_iinc dX6_isParted_74 4 rfl [(4, pI (v4 + 1)), (2, pL (mn64 (v2 * (w32 x15)) 1000000)), (5, pR x5), (0, pR v0), (1, pR v1)] (Nat.le_of_ble_eq_true rfl) rfl ?_
      refine j_goto 5 dX6_isParted_77 (by decide) ?_
      exact j_sub [3, 4, 1, 0] _ rfl (ih (mn64 (v2 * (w32 x15)) 1000000) (v4 + 1) u14 hcs hf)
theorem t6_isParted_l89 {G : CG} {A : Nat → Prop} {l : Launch} {a : List PV} {mc ms : Nat} {r : Int × Sg} {Kf : Sg → Option ((Int × Sg) × Nat × Nat)} (v0 : Option Nat) (v1 : Option Nat) (v2 : Int) (hK0 : ∀ (q : Sg) {ce sl c0 n0 : Nat}, ce + c0 ≤ mc ∧ sl + n0 ≤ ms → Kf q = some (r, c0, n0) → JW kC (bC G A) A l D6_isParted a (jQ (bC G A) A a (some (pI r.1)) r.2 mc ms) mc ms q ce sl 141 [(2, pL v2)] []) : ∀ (n : Nat) (v4 : Int) (u : Sg) {ce sl c0 n0 : Nat}, ce + c0 ≤ mc ∧ sl + n0 ≤ ms → (bdU (f6_isParted_l89 G v0 v1 v2 n v4 u) Kf = some (r, c0, n0)) → JW kC (bC G A) A l D6_isParted a (jQ (bC G A) A a (some (pI r.1)) r.2 mc ms) mc ms u ce sl 89 [(0, pR v0), (1, pR v1), (2, pL v2), (4, pI v4)] [] := by
  intro n
  induction n with
  | zero => intro v4 u ce sl c0 n0 hcs hf; exact onK hf
  | succ n ih =>
    intro v4 u ce sl c0 n0 hcs hf
    unfold f6_isParted_l89 at hf
    refine j_iload dX6_isParted_89 3 rfl ?_
    refine j_aload_n dX6_isParted_91 0 rfl ?_
    obtain ⟨x1, hx1, hf⟩ := obK hf
    refine c_geta (ci := 6) (k := 0) hx1 zcl_6 (Nat.le_of_ble_eq_true rfl) zf_X6_12 fk_240 dX6_isParted_92 ?_
    obtain ⟨b2, hb2, hf⟩ := obK hf
    obtain ⟨eb2, tb2⟩ := ztg_s hb2
    obtain ⟨x3, hx3, hf⟩ := obK hf
    refine a_Fr (x := ix_0) [] [pI v4] (tJ2_size (some b2) u hx3) ⟨q808, q559, q561, q131, q563⟩ iF_0 df_0 rfl ⟨(Nat.le_of_ble_eq_true rfl), (Nat.le_of_ble_eq_true rfl)⟩ zcl_5 rfl tb2 (by rw [← eb2]; rfl) (Nat.le_of_ble_eq_true rfl) dX6_isParted_95 (hcs_ret (x := ()) (r := ()) hcs) ?_
    refine j_icmp_ge (w32 v4) (w32 x3) rfl rfl 141 dX6_isParted_100 (by decide) (fun h13 => ?_) (fun h13 => ?_)
    · replace hf := itK h13 hf
      exact j_sub [2] _ rfl (hK0 u hcs (bdU_0 hf))
    · replace hf := ieK h13 hf
      refine j_lload_n dX6_isParted_103 2 rfl ?_
      refine j_ldc2 (z := 2000) q1187 (by decide) dX6_isParted_104 ?_
      refine j_lc_gt 141 dX6_isParted_107 dX6_isParted_108 (by decide) (fun h12 => ?_) (fun h12 => ?_)
      · replace hf := itK h12 hf
        exact j_sub [2] _ rfl (hK0 u hcs (bdU_0 hf))
      · replace hf := ieK h12 hf
        refine j_aload_n dX6_isParted_111 0 rfl ?_
        obtain ⟨x4, hx4, hf⟩ := obK hf
        refine c_geta (ci := 6) (k := 10) hx4 zcl_6 (Nat.le_of_ble_eq_true rfl) zf_X6_41 fk_250 dX6_isParted_112 ?_
        refine j_aload_n dX6_isParted_115 1 rfl ?_
        refine j_iload dX6_isParted_116 3 rfl ?_
        obtain ⟨b5, hb5, hf⟩ := obK hf
        obtain ⟨eb5, tb5⟩ := ztg_s hb5
        obtain ⟨x6, hx6, hf⟩ := obK hf
        refine a_Fr (x := ix_1) [pI v4] [pR x4] (tJ2_get (some b5) v4 u hx6) ⟨q810, q813, q815, q131, q817⟩ iF_1 df_1 rfl ⟨(Nat.le_of_ble_eq_true rfl), (Nat.le_of_ble_eq_true rfl)⟩ zcl_5 rfl tb5 (by rw [← eb5]; rfl) (Nat.le_of_ble_eq_true rfl) dX6_isParted_118 (hcs_ret (x := ()) (r := ()) hcs) ?_
        obtain ⟨y7, hy7, hf⟩ := obK hf
        refine c_cast hy7 zok_Starts q1141 dX6_isParted_123 ?_
        obtain ⟨b8, hb8, hf⟩ := obK hf
        obtain ⟨eb8, tb8⟩ := ztg_s hb8
        replace hf := bdU_a hf
        obtain ⟨q9, kq9, mq9, k_q9, m_q9, hq9, hf, hkq9, hmq9⟩ := bdU_s hf
        obtain ⟨hczq9, hcs⟩ := hcs_step hcs hkq9 hmq9
        refine a_Vr [] [pR x4] (t4_cutOut (some b8) u hq9) ⟨q1188, q1189, q1190, q135, q1191⟩ dv4_cutOut rfl ⟨(Nat.le_of_ble_eq_true rfl), (Nat.le_of_ble_eq_true rfl)⟩ (c_recv zcl_4 tb8) (by rw [← eb8]; rfl) (Nat.le_of_ble_eq_true rfl) dX6_isParted_126 hczq9 ?_
        obtain ⟨b10, hb10, hf⟩ := obK hf
        obtain ⟨eb10, tb10⟩ := ztg_s hb10
        replace hf := bdU_a hf
        obtain ⟨q11, kq11, mq11, k_q11, m_q11, hq11, hf, hkq11, hmq11⟩ := bdU_s hf
        obtain ⟨hczq11, hcs⟩ := hcs_step hcs hkq11 hmq11
        refine a_Fr (x := ix_2) [pR q9.1] [] (tJ2_add (some b10) q9.1 q9.2 hq11) ⟨q1195, q325, q327, q131, q329⟩ iF_2 df_2 rfl ⟨(Nat.le_of_ble_eq_true rfl), (Nat.le_of_ble_eq_true rfl)⟩ zcl_5 rfl tb10 (by rw [← eb10]; rfl) (Nat.le_of_ble_eq_true rfl) dX6_isParted_129 hczq11 ?_
        refine j_pop dX6_isParted_134 rfl ?_
        refine j_iinc dX6_isParted_135 3 rfl [(4, pI (v4 + 1)), (0, pR v0), (1, pR v1), (2, pL v2)] (Nat.le_of_ble_eq_true rfl) rfl ?_
        refine j_goto 89 dX6_isParted_138 (by decide) ?_
        exact j_sub [1, 2, 3, 0] _ rfl (ih (v4 + 1) q11.2 hcs hf)
theorem t6_isParted_b141 {G : CG} {A : Nat → Prop} {l : Launch} {a : List PV} {mc ms ce sl : Nat} {r : Int × Sg} {c0 n0 : Nat} (v2 : Int) (u : Sg) (hcs : ce + c0 ≤ mc ∧ sl + n0 ≤ ms) (hf : f6_isParted_b141 G v2 u = some (r, c0, n0)) : JW kC (bC G A) A l D6_isParted a (jQ (bC G A) A a (some (pI r.1)) r.2 mc ms) mc ms u ce sl 141 [(2, pL v2)] [] := by
  unfold f6_isParted_b141 at hf
  refine j_lload_n dX6_isParted_141 0 rfl ?_
  refine j_ldc2 (z := 2000) q1187 (by decide) dX6_isParted_142 ?_
  refine j_lc_gt 153 dX6_isParted_145 dX6_isParted_146 (by decide) (fun h1 => ?_) (fun h1 => ?_)
  · replace hf := it h1 hf
    refine j_iconst dX6_isParted_153 ?_
    replace hf := retU hf
    subst hf
    exact j_zreturn (x := 0) (bC_mv G A) (hcs_ret (x := ()) (r := ()) hcs) (ty := .boolean) rfl (nar_z (Or.inl rfl)) dX6_isParted_154
  · replace hf := ie h1 hf
    refine j_iconst dX6_isParted_149 ?_
    refine j_goto 154 dX6_isParted_150 (by decide) ?_
    replace hf := retU hf
    subst hf
    exact j_zreturn (x := 1) (bC_mv G A) (hcs_ret (x := ()) (r := ()) hcs) (ty := .boolean) rfl (nar_z (Or.inr rfl)) dX6_isParted_154
theorem t6_isParted {G : CG} {A : Nat → Prop} {l : Launch} {r : Int × Sg} {c0 n0 : Nat} (v0 : Option Nat) (v1 : Option Nat) (u : Sg) (hf : f6_isParted G v0 v1 u = some (r, c0, n0)) : JM kC (bC G A) A l yX6_isParted D6_isParted [pR v0, pR v1] u (some (pI r.1)) r.2 c0 n0 := by
  refine j_met (lv0 := [(0, pR v0), (1, pR v1)]) ⟨pl_X6, rfl, rfl, (Nat.le_of_ble_eq_true rfl), rfl⟩ ?_
  have hcs : 0 + c0 ≤ c0 ∧ 0 + n0 ≤ n0 := ⟨by omega, by omega⟩
  unfold f6_isParted at hf
  refine j_lconst (z := 1) dX6_isParted_0 rfl ?_
  refine j_lstore_n dX6_isParted_1 [(2, pL 1), (0, pR v0), (1, pR v1)] (Nat.le_of_ble_eq_true rfl) rfl ?_
  refine j_iconst dX6_isParted_2 ?_
  refine j_istore dX6_isParted_3 [(4, pI 0), (2, pL 1), (0, pR v0), (1, pR v1)] (Nat.le_of_ble_eq_true rfl) rfl ?_
  refine j_sub [2, 3, 1, 0] _ rfl (t6_isParted_l5 v0 v1 ?_ NN 1 0 u hcs hf)
  · intro q1 ceq1 slq1 cq1 nq1 hcs hf
    refine j_aload_n dX6_isParted_80 0 rfl ?_
    refine j_lload_n dX6_isParted_81 2 rfl ?_
    refine j_l2i dX6_isParted_82 ?_
    obtain ⟨u2, hu2, hf⟩ := ob hf
    refine c_puti (ci := 6) (k := 11) hu2 zcl_6 (Nat.le_of_ble_eq_true rfl) zf_X6_109 fk_251 rfl fits_I dX6_isParted_83 ?_
    refine j_iconst dX6_isParted_86 ?_
    refine j_istore dX6_isParted_87 [(4, pI 0), (0, pR v0), (1, pR v1), (2, pL q1.1)] (Nat.le_of_ble_eq_true rfl) rfl ?_
    refine j_sub [1, 2, 3, 0] _ rfl (t6_isParted_l89 v0 v1 q1.1 ?_ NN 0 u2 hcs hf)
    · intro q3 ceq3 slq3 cq3 nq3 hcs hf
      exact j_sub [0] _ rfl (t6_isParted_b141 q1.1 q3 hcs hf)

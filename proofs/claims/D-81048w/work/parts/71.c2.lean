theorem t0_finish {G : CG} {A : Nat → Prop} {l : Launch} (hfl : l.stackTraces = false) {r : (Nat ⊕ (Int)) × Sg} {c0 n0 : Nat} (v0 : Option Nat) (v1 : Option Nat) (u : Sg) (hf : f0_finish G v0 v1 u = some (r, c0, n0)) : JMT G A l yX0_finish D0_finish [pR v0, pR v1] u (omI r.1) r.2 c0 n0 := by
  refine t_met (lv0 := [(0, pR v0), (1, pR v1)]) ⟨pl_X0, rfl, rfl, (Nat.le_of_ble_eq_true rfl), rfl⟩ ?_
  have hcs : 0 + c0 ≤ c0 ∧ 0 + n0 ≤ n0 := ⟨by omega, by omega⟩
  unfold f0_finish at hf
  refine j_aload_n dX0_finish_0 1 rfl ?_
  refine j_aload_n dX0_finish_1 0 rfl ?_
  obtain ⟨x1, hx1, hf⟩ := ob hf
  refine c_geta (ci := 0) (k := 15) hx1 zcl_0 (Nat.le_of_ble_eq_true rfl) zf_X0_124 fk_15 dX0_finish_2 ?_
  obtain ⟨x2, hx2, hf⟩ := ob hf
  refine c_getaN (ci := 3) (k := 0) hx2 zcl_3 (Nat.le_of_ble_eq_true rfl) zf_X0_175 fk_120 dX0_finish_5 ?_
  obtain ⟨b3, hb3, hf⟩ := ob hf
  obtain ⟨eb3, tb3⟩ := ztg_s hb3
  obtain ⟨q4, kq4, mq4, k_q4, m_q4, hq4, hf, hkq4, hmq4⟩ := bdU_s hf
  obtain ⟨hczq4, hcs⟩ := hcs_step hcs hkq4 hmq4
  refine a_Vr [pR x2] [] (t6_isParted (some b3) x2 u hq4) ⟨q1137, q1138, q1139, q145, q1140⟩ dv6_isParted rfl ⟨(Nat.le_of_ble_eq_true rfl), (Nat.le_of_ble_eq_true rfl)⟩ (c_recv zcl_6 tb3) (by rw [← eb3]; rfl) (Nat.le_of_ble_eq_true rfl) dX0_finish_8 hczq4 ?_
  refine j_if_ne (w32 q4.1) rfl 28 dX0_finish_11 (by decide) (fun h19 => ?_) (fun h19 => ?_)
  · replace hf := ie h19 hf
    refine j_aload_n dX0_finish_28 1 rfl ?_
    obtain ⟨b5, hb5, hf⟩ := ob hf
    obtain ⟨eb5, tb5⟩ := ztg_s hb5
    obtain ⟨q6, hq6, hf⟩ := ob hf
    refine a_Vr [] [] (t6_countNodes (some b5) q4.2 hq6) ⟨q1197, q1198, q1199, q145, q1200⟩ dv6_countNodes rfl ⟨(Nat.le_of_ble_eq_true rfl), (Nat.le_of_ble_eq_true rfl)⟩ (c_recv zcl_6 tb5) (by rw [← eb5]; rfl) (Nat.le_of_ble_eq_true rfl) dX0_finish_29 (hcs_ret (x := ()) (r := ()) hcs) ?_
    refine j_pop dX0_finish_32 rfl ?_
    refine j_aload_n dX0_finish_33 1 rfl ?_
    refine j_aload_n dX0_finish_34 0 rfl ?_
    obtain ⟨x7, hx7, hf⟩ := ob hf
    refine c_geta (ci := 0) (k := 13) hx7 zcl_0 (Nat.le_of_ble_eq_true rfl) zf_X0_108 fk_13 dX0_finish_35 ?_
    obtain ⟨b8, hb8, hf⟩ := ob hf
    obtain ⟨eb8, tb8⟩ := ztg_s hb8
    obtain ⟨q9, kq9, mq9, k_q9, m_q9, hq9, hf, hkq9, hmq9⟩ := bdU_s hf
    obtain ⟨hczq9, hcs⟩ := hcs_step hcs hkq9 hmq9
    refine a_Vv [pR x7] [] (t6_answerAll (some b8) x7 q6.2 hq9) ⟨q1201, q1202, q1203, q145, q1204⟩ dv6_answerAll rfl ⟨(Nat.le_of_ble_eq_true rfl), (Nat.le_of_ble_eq_true rfl)⟩ (c_recv zcl_6 tb8) (by rw [← eb8]; rfl) (Nat.le_of_ble_eq_true rfl) dX0_finish_38 hczq9 ?_
    refine j_aload_n dX0_finish_41 0 rfl ?_
    obtain ⟨x10, hx10, hf⟩ := ob hf
    refine c_geta (ci := 0) (k := 5) hx10 zcl_0 (Nat.le_of_ble_eq_true rfl) zf_X0_82 fk_5 dX0_finish_42 ?_
    refine j_aload_n dX0_finish_45 1 rfl ?_
    obtain ⟨b11, hb11, hf⟩ := ob hf
    obtain ⟨eb11, tb11⟩ := ztg_s hb11
    obtain ⟨q12, kq12, mq12, k_q12, m_q12, hq12, hf, hkq12, hmq12⟩ := bdU_s hf
    obtain ⟨hczq12, hcs⟩ := hcs_step hcs hkq12 hmq12
    refine a_Fr (x := ix_2) [pR v1] [] (tJ2_add (some b11) v1 q9 hq12) ⟨q1255, q325, q327, q131, q329⟩ iF_2 df_2 rfl ⟨(Nat.le_of_ble_eq_true rfl), (Nat.le_of_ble_eq_true rfl)⟩ zcl_5 rfl tb11 (by rw [← eb11]; rfl) (Nat.le_of_ble_eq_true rfl) dX0_finish_46 hczq12 ?_
    refine j_pop dX0_finish_51 rfl ?_
    refine j_aload_n dX0_finish_52 0 rfl ?_
    obtain ⟨x13, hx13, hf⟩ := ob hf
    refine c_geta (ci := 0) (k := 5) hx13 zcl_0 (Nat.le_of_ble_eq_true rfl) zf_X0_82 fk_5 dX0_finish_53 ?_
    obtain ⟨b14, hb14, hf⟩ := ob hf
    obtain ⟨eb14, tb14⟩ := ztg_s hb14
    obtain ⟨x15, hx15, hf⟩ := ob hf
    refine a_Fr (x := ix_0) [] [] (tJ2_size (some b14) q12.2 hx15) ⟨q556, q559, q561, q131, q563⟩ iF_0 df_0 rfl ⟨(Nat.le_of_ble_eq_true rfl), (Nat.le_of_ble_eq_true rfl)⟩ zcl_5 rfl tb14 (by rw [← eb14]; rfl) (Nat.le_of_ble_eq_true rfl) dX0_finish_56 (hcs_ret (x := ()) (r := ()) hcs) ?_
    replace hf := retU hf
    subst hf
    exact t_ofret (j_ireturn (bC_mv G A) (hcs_ret (x := ()) (r := ()) hcs) rfl dX0_finish_61)
  · replace hf := it h19 hf
    obtain ⟨q16, kq16, mq16, k_q16, m_q16, hq16, hf, hkq16, hmq16⟩ := bdU_s hf
    obtain ⟨hczq16, hcs⟩ := hcs_step hcs hkq16 hmq16
    refine c_new (ci := 8) hq16 zcl_8 zmk_8 q554 dX0_finish_14 hczq16 ?_
    refine j_dup dX0_finish_17 rfl ?_
    refine j_bipush dX0_finish_18 (by decide) ?_
    refine j_aload_n dX0_finish_20 0 rfl ?_
    obtain ⟨x17, hx17, hf⟩ := ob hf
    refine c_geti (ci := 0) (k := 2) hx17 zcl_0 (Nat.le_of_ble_eq_true rfl) zf_X0_164 fk_2 dX0_finish_21 ?_
    obtain ⟨u18, hu18, hf⟩ := ob hf
    refine c_callI [pI 7, pI x17] [pR (some q16.1)] _ (t8_init hfl (some q16.1) 7 x17 q16.2 hu18) ⟨q1196, q707, q150, q708, rfl, rfl⟩ dv8_init rfl ⟨(Nat.le_of_ble_eq_true rfl), (Nat.le_of_ble_eq_true rfl)⟩ rfl (Nat.le_of_ble_eq_true rfl) dX0_finish_24 (hcs_ret (x := ()) (r := ()) hcs) ?_
    obtain ⟨ht, hr⟩ := xth_s hf
    rw [hr]
    exact t_athrow ht q1136 (hcs_ret (x := ()) (r := ()) hcs) dX0_finish_27
theorem t0_isWord_l2 {G : CG} {A : Nat → Prop} {l : Launch} {a : List PV} {r : Int} {Kf : (Unit) ⊕ (Unit) → Option (Int)} (v0 : Option Nat) (v1 : Int) (u : Sg) (hK0 : ∀ q : Unit, Kf (.inl q) = some r → JW kC (bC G A) A l D0_isWord a (jQ (bC G A) A a (some (pI r)) u 0 0) 0 0 u 0 0 22 [] []) (hK1 : ∀ q : Unit, Kf (.inr q) = some r → JW kC (bC G A) A l D0_isWord a (jQ (bC G A) A a (some (pI r)) u 0 0) 0 0 u 0 0 30 [] []) : ∀ (n : Nat) (v3 : Int), ((f0_isWord_l2 G v0 v1 u n v3).bind Kf = some r) → JW kC (bC G A) A l D0_isWord a (jQ (bC G A) A a (some (pI r)) u 0 0) 0 0 u 0 0 2 [(0, pR v0), (1, pL v1), (3, pI v3)] [] := by
  intro n
  induction n with
  | zero => intro v3 hf; exact onb hf
  | succ n ih =>
    intro v3 hf
    unfold f0_isWord_l2 at hf
    refine j_iload_n dX0_isWord_2 2 rfl ?_
    refine j_aload_n dX0_isWord_3 0 rfl ?_
    obtain ⟨x1, hx1, hf⟩ := obb hf
    refine c_geta (ci := 0) (k := 0) hx1 zcl_0 (Nat.le_of_ble_eq_true rfl) zf_X0_1 fk_0 dX0_isWord_4 ?_
    obtain ⟨x2, hx2, hf⟩ := obb hf
    refine c_alen 4 (by decide) (by decide) hx2 dX0_isWord_7 ?_
    refine j_icmp_ge (w32 v3) (w32 x2) rfl rfl 30 dX0_isWord_8 (by decide) (fun h6 => ?_) (fun h6 => ?_)
    · replace hf := itb h6 hf
      exact j_sub [] _ rfl (hK1 () hf)
    · replace hf := ieb h6 hf
      refine j_aload_n dX0_isWord_11 0 rfl ?_
      obtain ⟨x3, hx3, hf⟩ := obb hf
      refine c_geta (ci := 0) (k := 0) hx3 zcl_0 (Nat.le_of_ble_eq_true rfl) zf_X0_1 fk_0 dX0_isWord_12 ?_
      refine j_iload_n dX0_isWord_15 2 rfl ?_
      obtain ⟨x4, hx4, hf⟩ := obb hf
      refine c_lald hx4 dX0_isWord_16 ?_
      refine j_lload_n dX0_isWord_17 1 rfl ?_
      refine j_lc_ne 24 dX0_isWord_18 dX0_isWord_19 (by decide) (fun h5 => ?_) (fun h5 => ?_)
      · replace hf := ieb h5 hf
        refine j_iinc dX0_isWord_24 2 rfl [(3, pI (v3 + 1)), (0, pR v0), (1, pL v1)] (Nat.le_of_ble_eq_true rfl) rfl ?_
        refine j_goto 2 dX0_isWord_27 (by decide) ?_
        exact j_sub [1, 2, 0] _ rfl (ih (v3 + 1) hf)
      · replace hf := itb h5 hf
        exact j_sub [] _ rfl (hK0 () hf)
theorem t0_isWord {G : CG} {A : Nat → Prop} {l : Launch} {r : Int} (v0 : Option Nat) (v1 : Int) (u : Sg) (hf : f0_isWord G v0 v1 u = some r) : JM kC (bC G A) A l yX0_isWord D0_isWord [pR v0, pL v1] u (some (pI r)) u 0 0 := by
  refine j_met (lv0 := [(0, pR v0), (1, pL v1)]) ⟨pl_X0, rfl, rfl, (Nat.le_of_ble_eq_true rfl), rfl⟩ ?_
  unfold f0_isWord at hf
  refine j_iconst dX0_isWord_0 ?_
  refine j_istore_n dX0_isWord_1 [(3, pI 0), (0, pR v0), (1, pL v1)] (Nat.le_of_ble_eq_true rfl) rfl ?_
  refine j_sub [1, 2, 0] _ rfl (t0_isWord_l2 v0 v1 u ?_ ?_ NN 0 hf)
  · intro q1 hf
    simp only [Sum.elim_inl, Sum.elim_inr] at hf
    refine j_iconst dX0_isWord_22 ?_
    replace hf := Option.some.inj hf
    subst hf
    exact j_zreturn (x := 1) (bC_mv G A) ⟨Nat.le_refl 0, Nat.le_refl 0⟩ (ty := .boolean) rfl (nar_z (Or.inr rfl)) dX0_isWord_23
  · intro q2 hf
    simp only [Sum.elim_inl, Sum.elim_inr] at hf
    refine j_iconst dX0_isWord_30 ?_
    replace hf := Option.some.inj hf
    subst hf
    exact j_zreturn (x := 0) (bC_mv G A) ⟨Nat.le_refl 0, Nat.le_refl 0⟩ (ty := .boolean) rfl (nar_z (Or.inl rfl)) dX0_isWord_31
theorem t7_isFigure {G : CG} {A : Nat → Prop} {l : Launch} {r : Int} (v0 : Option Nat) (v1 : Int) (u : Sg) (hf : f7_isFigure G v0 v1 u = some r) : JM kC (bC G A) A l yX7_isFigure D7_isFigure [pR v0, pI v1] u (some (pI r)) u 0 0 := by
  refine j_met (lv0 := [(0, pR v0), (1, pI v1)]) ⟨pl_X7, rfl, rfl, (Nat.le_of_ble_eq_true rfl), rfl⟩ ?_
  unfold f7_isFigure at hf
  refine j_iload_n dX7_isFigure_0 1 rfl ?_
  refine j_bipush dX7_isFigure_1 (by decide) ?_
  refine j_icmp_lt (w32 v1) 48 rfl rfl 16 dX7_isFigure_3 (by decide) (fun h2 => ?_) (fun h2 => ?_)
  · replace hf := it h2 hf
    refine j_iconst dX7_isFigure_16 ?_
    replace hf := Option.some.inj hf
    subst hf
    exact j_zreturn (x := 0) (bC_mv G A) ⟨Nat.le_refl 0, Nat.le_refl 0⟩ (ty := .boolean) rfl (nar_z (Or.inl rfl)) dX7_isFigure_17
  · replace hf := ie h2 hf
    refine j_iload_n dX7_isFigure_6 1 rfl ?_
    refine j_bipush dX7_isFigure_7 (by decide) ?_
    refine j_icmp_gt (w32 v1) 57 rfl rfl 16 dX7_isFigure_9 (by decide) (fun h1 => ?_) (fun h1 => ?_)
    · replace hf := it h1 hf
      refine j_iconst dX7_isFigure_16 ?_
      replace hf := Option.some.inj hf
      subst hf
      exact j_zreturn (x := 0) (bC_mv G A) ⟨Nat.le_refl 0, Nat.le_refl 0⟩ (ty := .boolean) rfl (nar_z (Or.inl rfl)) dX7_isFigure_17
    · replace hf := ie h1 hf
      refine j_iconst dX7_isFigure_12 ?_
      refine j_goto 17 dX7_isFigure_13 (by decide) ?_
      replace hf := Option.some.inj hf
      subst hf
      exact j_zreturn (x := 1) (bC_mv G A) ⟨Nat.le_refl 0, Nat.le_refl 0⟩ (ty := .boolean) rfl (nar_z (Or.inr rfl)) dX7_isFigure_17
theorem t7_isLetter {G : CG} {A : Nat → Prop} {l : Launch} {r : Int} (v0 : Option Nat) (v1 : Int) (u : Sg) (hf : f7_isLetter G v0 v1 u = some r) : JM kC (bC G A) A l yX7_isLetter D7_isLetter [pR v0, pI v1] u (some (pI r)) u 0 0 := by
  refine j_met (lv0 := [(0, pR v0), (1, pI v1)]) ⟨pl_X7, rfl, rfl, (Nat.le_of_ble_eq_true rfl), rfl⟩ ?_
  unfold f7_isLetter at hf
  refine j_iload_n dX7_isLetter_0 1 rfl ?_
  refine j_bipush dX7_isLetter_1 (by decide) ?_
  refine j_icmp_lt (w32 v1) 97 rfl rfl 16 dX7_isLetter_3 (by decide) (fun h2 => ?_) (fun h2 => ?_)
  · replace hf := it h2 hf
    refine j_iconst dX7_isLetter_16 ?_
    replace hf := Option.some.inj hf
    subst hf
    exact j_zreturn (x := 0) (bC_mv G A) ⟨Nat.le_refl 0, Nat.le_refl 0⟩ (ty := .boolean) rfl (nar_z (Or.inl rfl)) dX7_isLetter_17
  · replace hf := ie h2 hf
    refine j_iload_n dX7_isLetter_6 1 rfl ?_
    refine j_bipush dX7_isLetter_7 (by decide) ?_
    refine j_icmp_gt (w32 v1) 122 rfl rfl 16 dX7_isLetter_9 (by decide) (fun h1 => ?_) (fun h1 => ?_)
    · replace hf := it h1 hf
      refine j_iconst dX7_isLetter_16 ?_
      replace hf := Option.some.inj hf
      subst hf
      exact j_zreturn (x := 0) (bC_mv G A) ⟨Nat.le_refl 0, Nat.le_refl 0⟩ (ty := .boolean) rfl (nar_z (Or.inl rfl)) dX7_isLetter_17
    · replace hf := ie h1 hf
      refine j_iconst dX7_isLetter_12 ?_
      refine j_goto 17 dX7_isLetter_13 (by decide) ?_
      replace hf := Option.some.inj hf
      subst hf
      exact j_zreturn (x := 1) (bC_mv G A) ⟨Nat.le_refl 0, Nat.le_refl 0⟩ (ty := .boolean) rfl (nar_z (Or.inr rfl)) dX7_isLetter_17
theorem t7_octet {G : CG} {A : Nat → Prop} {l : Launch} {r : Int} (v0 : Option Nat) (v1 : Int) (u : Sg) (hf : f7_octet G v0 v1 u = some r) : JM kC (bC G A) A l yX7_octet D7_octet [pR v0, pI v1] u (some (pI r)) u 0 0 := by
  refine j_met (lv0 := [(0, pR v0), (1, pI v1)]) ⟨pl_X7, rfl, rfl, (Nat.le_of_ble_eq_true rfl), rfl⟩ ?_
  unfold f7_octet at hf
  refine j_iload_n dX7_octet_0 1 rfl ?_
  refine j_aload_n dX7_octet_1 0 rfl ?_
  obtain ⟨x1, hx1, hf⟩ := ob hf
  refine c_geta (ci := 7) (k := 10) hx1 zcl_7 (Nat.le_of_ble_eq_true rfl) zf_X7_3 fk_290 dX7_octet_2 ?_
  obtain ⟨x2, hx2, hf⟩ := ob hf
  refine c_getiN (ci := 0) (k := 2) hx2 zcl_0 (Nat.le_of_ble_eq_true rfl) zf_X7_26 fk_2 dX7_octet_5 ?_
  refine j_icmp_ge (w32 v1) (w32 x2) rfl rfl 27 dX7_octet_8 (by decide) (fun h6 => ?_) (fun h6 => ?_)
  · replace hf := it h6 hf
    refine j_iconst dX7_octet_27 ?_
    replace hf := Option.some.inj hf
    subst hf
    exact j_ireturn (bC_mv G A) ⟨Nat.le_refl 0, Nat.le_refl 0⟩ rfl dX7_octet_28
  · replace hf := ie h6 hf
    refine j_aload_n dX7_octet_11 0 rfl ?_
    obtain ⟨x3, hx3, hf⟩ := ob hf
    refine c_geta (ci := 7) (k := 10) hx3 zcl_7 (Nat.le_of_ble_eq_true rfl) zf_X7_3 fk_290 dX7_octet_12 ?_
    obtain ⟨x4, hx4, hf⟩ := ob hf
    refine c_getaN (ci := 0) (k := 1) hx4 zcl_0 (Nat.le_of_ble_eq_true rfl) zf_X7_29 fk_1 dX7_octet_15 ?_
    refine j_iload_n dX7_octet_18 1 rfl ?_
    obtain ⟨x5, hx5, hf⟩ := ob hf
    refine c_bald hx5 dX7_octet_19 ?_
    refine j_sipush dX7_octet_20 (by decide) ?_
    refine j_iand dX7_octet_23 ?_
    refine j_goto 28 dX7_octet_24 (by decide) ?_
    replace hf := Option.some.inj hf
    subst hf
    exact j_ireturn (bC_mv G A) ⟨Nat.le_refl 0, Nat.le_refl 0⟩ rfl dX7_octet_28
theorem t7_pass_b82 {G : CG} {A : Nat → Prop} {l : Launch} {a : List PV} {r : Sg} {Kf : Sg → Option (Sg)} {v0 : Option Nat} (kh : Int → Sg → Option (Sg)) (hkh : ∀ (z1 : Int) (zu : Sg), ((kh z1 zu).bind Kf = some r) → JW kC (bC G A) A l D7_pass a (jQ (bC G A) A a none r 0 0) 0 0 zu 0 0 2 [(0, pR v0), (1, pI z1)] []) (hK0 : ∀ q : Sg, Kf q = some r → JW kC (bC G A) A l D7_pass a (jQ (bC G A) A a none r 0 0) 0 0 q 0 0 100 [] []) (v1 : Int) (u : Sg) (hf : (f7_pass_b82 G kh v0 v1 u).bind Kf = some r) : JW kC (bC G A) A l D7_pass a (jQ (bC G A) A a none r 0 0) 0 0 u 0 0 82 [(0, pR v0), (1, pI v1)] [] := by
  unfold f7_pass_b82 at hf
  refine j_aload_n dX7_pass_82 0 rfl ?_
  refine j_dup dX7_pass_83 rfl ?_
  obtain ⟨x1, hx1, hf⟩ := obb hf
  refine c_geti (ci := 7) (k := 0) hx1 zcl_7 (Nat.le_of_ble_eq_true rfl) zf_X7_33 fk_280 dX7_pass_84 ?_
  refine j_iconst dX7_pass_87 ?_
  refine j_iadd dX7_pass_88 ?_
  obtain ⟨u2, hu2, hf⟩ := obb hf
  refine c_puti (ci := 7) (k := 0) hu2 zcl_7 (Nat.le_of_ble_eq_true rfl) zf_X7_33 fk_280 rfl fits_I dX7_pass_89 ?_
  refine j_goto 97 dX7_pass_92 (by decide) ?_
  refine j_goto 2 dX7_pass_97 (by decide) ?_
  exact j_sub [0, 1] _ rfl (hkh v1 u2 hf)
theorem t7_pass_l21 {G : CG} {A : Nat → Prop} {l : Launch} {a : List PV} {r : Sg} {Kf : Sg → Option (Sg)} (v0 : Option Nat) (v1 : Int) (hK0 : ∀ q : Sg, Kf q = some r → JW kC (bC G A) A l D7_pass a (jQ (bC G A) A a none r 0 0) 0 0 q 0 0 97 [(0, pR v0), (1, pI v1)] []) : ∀ (n : Nat) (u : Sg), ((f7_pass_l21 G v0 v1 n u).bind Kf = some r) → JW kC (bC G A) A l D7_pass a (jQ (bC G A) A a none r 0 0) 0 0 u 0 0 21 [(0, pR v0), (1, pI v1)] [] := by
  intro n
  induction n with
  | zero => intro u hf; exact onb hf
  | succ n ih =>
    intro u hf
    unfold f7_pass_l21 at hf
    refine j_aload_n dX7_pass_21 0 rfl ?_
    refine j_aload_n dX7_pass_22 0 rfl ?_
    obtain ⟨x1, hx1, hf⟩ := obb hf
    refine c_geti (ci := 7) (k := 0) hx1 zcl_7 (Nat.le_of_ble_eq_true rfl) zf_X7_33 fk_280 dX7_pass_23 ?_
    obtain ⟨b2, hb2, hf⟩ := obb hf
    obtain ⟨eb2, tb2⟩ := ztg_s hb2
    obtain ⟨x3, hx3, hf⟩ := obb hf
    refine a_Vr [pI x1] [] (t7_octet (some b2) x1 u hx3) ⟨q655, q657, qs5, q146, q658⟩ dv7_octet rfl ⟨(Nat.le_of_ble_eq_true rfl), (Nat.le_of_ble_eq_true rfl)⟩ (c_recv zcl_7 tb2) (by rw [← eb2]; rfl) (Nat.le_of_ble_eq_true rfl) dX7_pass_26 ⟨Nat.le_refl 0, Nat.le_refl 0⟩ ?_
    refine j_if_lt (w32 x3) rfl 97 dX7_pass_29 (by decide) (fun h10 => ?_) (fun h10 => ?_)
    · replace hf := itb h10 hf
      exact j_sub [0, 1] _ rfl (hK0 u hf)
    · replace hf := ieb h10 hf
      refine j_aload_n dX7_pass_32 0 rfl ?_
      refine j_aload_n dX7_pass_33 0 rfl ?_
      obtain ⟨x4, hx4, hf⟩ := obb hf
      refine c_geti (ci := 7) (k := 0) hx4 zcl_7 (Nat.le_of_ble_eq_true rfl) zf_X7_33 fk_280 dX7_pass_34 ?_
      obtain ⟨b5, hb5, hf⟩ := obb hf
      obtain ⟨eb5, tb5⟩ := ztg_s hb5
      obtain ⟨x6, hx6, hf⟩ := obb hf
      refine a_Vr [pI x4] [] (t7_octet (some b5) x4 u hx6) ⟨q655, q657, qs5, q146, q658⟩ dv7_octet rfl ⟨(Nat.le_of_ble_eq_true rfl), (Nat.le_of_ble_eq_true rfl)⟩ (c_recv zcl_7 tb5) (by rw [← eb5]; rfl) (Nat.le_of_ble_eq_true rfl) dX7_pass_37 ⟨Nat.le_refl 0, Nat.le_refl 0⟩ ?_
      refine j_bipush dX7_pass_40 (by decide) ?_
      refine j_icmp_eq (w32 x6) 10 rfl rfl 97 dX7_pass_42 (by decide) (fun h9 => ?_) (fun h9 => ?_)
      · replace hf := itb h9 hf
        exact j_sub [0, 1] _ rfl (hK0 u hf)
      · replace hf := ieb h9 hf
        refine j_aload_n dX7_pass_45 0 rfl ?_
        refine j_dup dX7_pass_46 rfl ?_
        obtain ⟨x7, hx7, hf⟩ := obb hf
        refine c_geti (ci := 7) (k := 0) hx7 zcl_7 (Nat.le_of_ble_eq_true rfl) zf_X7_33 fk_280 dX7_pass_47 ?_
        refine j_iconst dX7_pass_50 ?_
        refine j_iadd dX7_pass_51 ?_
        obtain ⟨u8, hu8, hf⟩ := obb hf
        refine c_puti (ci := 7) (k := 0) hu8 zcl_7 (Nat.le_of_ble_eq_true rfl) zf_X7_33 fk_280 rfl fits_I dX7_pass_52 ?_
        refine j_goto 21 dX7_pass_55 (by decide) ?_
        exact j_sub [0, 1] _ rfl (ih u8 hf)
theorem t7_pass_l2 {G : CG} {A : Nat → Prop} {l : Launch} {a : List PV} {r : Sg} {Kf : Sg → Option (Sg)} (v0 : Option Nat) (hK0 : ∀ q : Sg, Kf q = some r → JW kC (bC G A) A l D7_pass a (jQ (bC G A) A a none r 0 0) 0 0 q 0 0 100 [] []) : ∀ (n : Nat) (v1 : Int) (u : Sg), ((f7_pass_l2 G v0 n v1 u).bind Kf = some r) → JW kC (bC G A) A l D7_pass a (jQ (bC G A) A a none r 0 0) 0 0 u 0 0 2 [(0, pR v0), (1, pI v1)] [] := by
  intro n
  induction n with
  | zero => intro v1 u hf; exact onb hf
  | succ n ih =>
    intro v1 u hf
    unfold f7_pass_l2 at hf
    refine j_iload_n dX7_pass_2 1 rfl ?_
    refine j_if_eq (w32 v1) rfl 100 dX7_pass_3 (by decide) (fun h10 => ?_) (fun h10 => ?_)
    · replace hf := itb h10 hf
      exact j_sub [] _ rfl (hK0 u hf)
    · replace hf := ieb h10 hf
      refine j_aload_n dX7_pass_6 0 rfl ?_
      refine j_aload_n dX7_pass_7 0 rfl ?_
      obtain ⟨x1, hx1, hf⟩ := obb hf
      refine c_geti (ci := 7) (k := 0) hx1 zcl_7 (Nat.le_of_ble_eq_true rfl) zf_X7_33 fk_280 dX7_pass_8 ?_
      obtain ⟨b2, hb2, hf⟩ := obb hf
      obtain ⟨eb2, tb2⟩ := ztg_s hb2
      obtain ⟨x3, hx3, hf⟩ := obb hf
      refine a_Vr [pI x1] [] (t7_octet (some b2) x1 u hx3) ⟨q655, q657, qs5, q146, q658⟩ dv7_octet rfl ⟨(Nat.le_of_ble_eq_true rfl), (Nat.le_of_ble_eq_true rfl)⟩ (c_recv zcl_7 tb2) (by rw [← eb2]; rfl) (Nat.le_of_ble_eq_true rfl) dX7_pass_11 ⟨Nat.le_refl 0, Nat.le_refl 0⟩ ?_
      refine j_istore_n dX7_pass_14 [(2, pI x3), (0, pR v0), (1, pI v1)] (Nat.le_of_ble_eq_true rfl) rfl ?_
      refine j_iload_n dX7_pass_15 0 rfl ?_
      refine j_bipush dX7_pass_16 (by decide) ?_
      refine j_icmp_ne (w32 x3) 35 rfl rfl 58 dX7_pass_18 (by decide) (fun h9 => ?_) (fun h9 => ?_)
      · replace hf := ieb h9 hf
        refine j_iload_n dX7_pass_58 0 rfl ?_
        refine j_bipush dX7_pass_59 (by decide) ?_
        refine j_icmp_eq (w32 x3) 32 rfl rfl 82 dX7_pass_61 (by decide) (fun h7 => ?_) (fun h7 => ?_)
        · replace hf := itb h7 hf
          exact j_sub [1, 2] _ rfl (t7_pass_b82 (f7_pass_l2 G v0 n) ih hK0 v1 u hf)
        · replace hf := ieb h7 hf
          refine j_iload_n dX7_pass_64 0 rfl ?_
          refine j_bipush dX7_pass_65 (by decide) ?_
          refine j_icmp_eq (w32 x3) 9 rfl rfl 82 dX7_pass_67 (by decide) (fun h6 => ?_) (fun h6 => ?_)
          · replace hf := itb h6 hf
            exact j_sub [1, 2] _ rfl (t7_pass_b82 (f7_pass_l2 G v0 n) ih hK0 v1 u hf)
          · replace hf := ieb h6 hf
            refine j_iload_n dX7_pass_70 0 rfl ?_
            refine j_bipush dX7_pass_71 (by decide) ?_
            refine j_icmp_eq (w32 x3) 10 rfl rfl 82 dX7_pass_73 (by decide) (fun h5 => ?_) (fun h5 => ?_)
            · replace hf := itb h5 hf
              exact j_sub [1, 2] _ rfl (t7_pass_b82 (f7_pass_l2 G v0 n) ih hK0 v1 u hf)
            · replace hf := ieb h5 hf
              refine j_iload_n dX7_pass_76 0 rfl ?_
              refine j_bipush dX7_pass_77 (by decide) ?_
              refine j_icmp_ne (w32 x3) 13 rfl rfl 95 dX7_pass_79 (by decide) (fun h4 => ?_) (fun h4 => ?_)
              · replace hf := ieb h4 hf
                refine j_iconst dX7_pass_95 ?_
                refine j_istore_n dX7_pass_96 [(1, pI 0), (2, pI x3), (0, pR v0)] (Nat.le_of_ble_eq_true rfl) rfl ?_
                refine j_goto 2 dX7_pass_97 (by decide) ?_
                exact j_sub [2, 0] _ rfl (ih 0 u hf)
              · replace hf := itb h4 hf
                exact j_sub [1, 2] _ rfl (t7_pass_b82 (f7_pass_l2 G v0 n) ih hK0 v1 u hf)
      · replace hf := itb h9 hf
        replace hf := oba hf
        refine j_sub [1, 2] _ rfl (t7_pass_l21 v0 v1 ?_ NN u hf)
        · intro q8 hf
          refine j_goto 2 dX7_pass_97 (by decide) ?_
          exact j_sub [0, 1] _ rfl (ih v1 q8 hf)
theorem t7_pass {G : CG} {A : Nat → Prop} {l : Launch} {r : Sg} (v0 : Option Nat) (u : Sg) (hf : f7_pass G v0 u = some r) : JM kC (bC G A) A l yX7_pass D7_pass [pR v0] u none r 0 0 := by
  refine j_met (lv0 := [(0, pR v0)]) ⟨pl_X7, rfl, rfl, (Nat.le_of_ble_eq_true rfl), rfl⟩ ?_
  unfold f7_pass at hf
  refine j_iconst dX7_pass_0 ?_
  refine j_istore_n dX7_pass_1 [(1, pI 1), (0, pR v0)] (Nat.le_of_ble_eq_true rfl) rfl ?_
  refine j_sub [1, 0] _ rfl (t7_pass_l2 v0 ?_ NN 1 u hf)
  · intro q1 hf
    replace hf := Option.some.inj hf
    subst hf
    exact j_return (bC_mv G A) ⟨Nat.le_refl 0, Nat.le_refl 0⟩ rfl dX7_pass_100
theorem t7_sign_b126 {G : CG} {A : Nat → Prop} {l : Launch} {a : List PV} {mc ms ce sl : Nat} (hfl : l.stackTraces = false) {r : (Nat ⊕ (Unit)) × Sg} {c0 n0 : Nat} (v0 : Option Nat) (v3 : Int) (u : Sg) (hcs : ce + c0 ≤ mc ∧ sl + n0 ≤ ms) (hf : f7_sign_b126 G v0 v3 u = some (r, c0, n0)) : JW kC (bC G A) A l D7_sign a (tQQ yX7_sign G A a (omV r.1) r.2 mc ms) mc ms u ce sl 126 [(0, pR v0), (3, pI v3)] [] := by
  unfold f7_sign_b126 at hf
  refine j_aload_n dX7_sign_126 0 rfl ?_
  refine j_dup dX7_sign_127 rfl ?_
  obtain ⟨x1, hx1, hf⟩ := ob hf
  refine c_geti (ci := 7) (k := 0) hx1 zcl_7 (Nat.le_of_ble_eq_true rfl) zf_X7_33 fk_280 dX7_sign_128 ?_
  refine j_iload_n dX7_sign_131 1 rfl ?_
  refine j_if_eq (w32 v3) rfl 139 dX7_sign_132 (by decide) (fun h4 => ?_) (fun h4 => ?_)
  · replace hf := it h4 hf
    refine j_iconst dX7_sign_139 ?_
    refine j_iadd dX7_sign_140 ?_
    obtain ⟨u2, hu2, hf⟩ := ob hf
    refine c_puti (ci := 7) (k := 0) hu2 zcl_7 (Nat.le_of_ble_eq_true rfl) zf_X7_33 fk_280 rfl fits_I dX7_sign_141 ?_
    replace hf := retU hf
    subst hf
    exact t_ofret (j_return (bC_mv G A) (hcs_ret (x := ()) (r := ()) hcs) rfl dX7_sign_144)
  · replace hf := ie h4 hf
    refine j_iconst dX7_sign_135 ?_
    refine j_goto 140 dX7_sign_136 (by decide) ?_
    refine j_iadd dX7_sign_140 ?_
    obtain ⟨u3, hu3, hf⟩ := ob hf
    refine c_puti (ci := 7) (k := 0) hu3 zcl_7 (Nat.le_of_ble_eq_true rfl) zf_X7_33 fk_280 rfl fits_I dX7_sign_141 ?_
    replace hf := retU hf
    subst hf
    exact t_ofret (j_return (bC_mv G A) (hcs_ret (x := ()) (r := ()) hcs) rfl dX7_sign_144)
theorem t7_sign_b68 {G : CG} {A : Nat → Prop} {l : Launch} {a : List PV} {mc ms ce sl : Nat} (hfl : l.stackTraces = false) {r : (Nat ⊕ (Unit)) × Sg} {c0 n0 : Nat} (v0 : Option Nat) (v1 : Int) (v3 : Int) (s0 : Option Nat) (s1 : Int) (u : Sg) (hcs : ce + c0 ≤ mc ∧ sl + n0 ≤ ms) (hf : f7_sign_b68 G v0 v1 v3 s0 s1 u = some (r, c0, n0)) : JW kC (bC G A) A l D7_sign a (tQQ yX7_sign G A a (omV r.1) r.2 mc ms) mc ms u ce sl 68 [(0, pR v0), (1, pI v1), (3, pI v3)] [pI s1, pR s0] := by
  unfold f7_sign_b68 at hf
  obtain ⟨u1, hu1, hf⟩ := ob hf
  refine c_puti (ci := 7) (k := 5) hu1 zcl_7 (Nat.le_of_ble_eq_true rfl) zf_X7_76 fk_285 rfl fits_I dX7_sign_68 ?_
  refine j_iload_n dX7_sign_71 1 rfl ?_
  refine j_bipush dX7_sign_72 (by decide) ?_
  refine j_icmp_eq (w32 v1) 59 rfl rfl 126 dX7_sign_74 (by decide) (fun h11 => ?_) (fun h11 => ?_)
  · replace hf := it h11 hf
    exact j_sub [0, 2] _ rfl (t7_sign_b126 hfl v0 v3 u1 hcs hf)
  · replace hf := ie h11 hf
    refine j_iload_n dX7_sign_77 1 rfl ?_
    refine j_bipush dX7_sign_78 (by decide) ?_
    refine j_icmp_eq (w32 v1) 44 rfl rfl 126 dX7_sign_80 (by decide) (fun h10 => ?_) (fun h10 => ?_)
    · replace hf := it h10 hf
      exact j_sub [0, 2] _ rfl (t7_sign_b126 hfl v0 v3 u1 hcs hf)
    · replace hf := ie h10 hf
      refine j_iload_n dX7_sign_83 1 rfl ?_
      refine j_bipush dX7_sign_84 (by decide) ?_
      refine j_icmp_eq (w32 v1) 40 rfl rfl 126 dX7_sign_86 (by decide) (fun h9 => ?_) (fun h9 => ?_)
      · replace hf := it h9 hf
        exact j_sub [0, 2] _ rfl (t7_sign_b126 hfl v0 v3 u1 hcs hf)
      · replace hf := ie h9 hf
        refine j_iload_n dX7_sign_89 1 rfl ?_
        refine j_bipush dX7_sign_90 (by decide) ?_
        refine j_icmp_eq (w32 v1) 41 rfl rfl 126 dX7_sign_92 (by decide) (fun h8 => ?_) (fun h8 => ?_)
        · replace hf := it h8 hf
          exact j_sub [0, 2] _ rfl (t7_sign_b126 hfl v0 v3 u1 hcs hf)
        · replace hf := ie h8 hf
          refine j_iload_n dX7_sign_95 1 rfl ?_
          refine j_bipush dX7_sign_96 (by decide) ?_
          refine j_icmp_eq (w32 v1) 61 rfl rfl 126 dX7_sign_98 (by decide) (fun h7 => ?_) (fun h7 => ?_)
          · replace hf := it h7 hf
            exact j_sub [0, 2] _ rfl (t7_sign_b126 hfl v0 v3 u1 hcs hf)
          · replace hf := ie h7 hf
            refine j_iload_n dX7_sign_101 1 rfl ?_
            refine j_bipush dX7_sign_102 (by decide) ?_
            refine j_icmp_eq (w32 v1) 60 rfl rfl 126 dX7_sign_104 (by decide) (fun h6 => ?_) (fun h6 => ?_)
            · replace hf := it h6 hf
              exact j_sub [0, 2] _ rfl (t7_sign_b126 hfl v0 v3 u1 hcs hf)
            · replace hf := ie h6 hf
              refine j_iload_n dX7_sign_107 1 rfl ?_
              refine j_bipush dX7_sign_108 (by decide) ?_
              refine j_icmp_eq (w32 v1) 62 rfl rfl 126 dX7_sign_110 (by decide) (fun h5 => ?_) (fun h5 => ?_)
              · replace hf := it h5 hf
                exact j_sub [0, 2] _ rfl (t7_sign_b126 hfl v0 v3 u1 hcs hf)
              · replace hf := ie h5 hf
                obtain ⟨q2, kq2, mq2, k_q2, m_q2, hq2, hf, hkq2, hmq2⟩ := bdU_s hf
                obtain ⟨hczq2, hcs⟩ := hcs_step hcs hkq2 hmq2
                refine c_new (ci := 8) hq2 zcl_8 zmk_8 q667 dX7_sign_113 hczq2 ?_
                refine j_dup dX7_sign_116 rfl ?_
                refine j_iconst dX7_sign_117 ?_
                refine j_aload_n dX7_sign_118 0 rfl ?_
                obtain ⟨x3, hx3, hf⟩ := ob hf
                refine c_geti (ci := 7) (k := 2) hx3 zcl_7 (Nat.le_of_ble_eq_true rfl) zf_X7_43 fk_282 dX7_sign_119 ?_
                obtain ⟨u4, hu4, hf⟩ := ob hf
                refine c_callI [pI 1, pI x3] [pR (some q2.1)] _ (t8_init hfl (some q2.1) 1 x3 q2.2 hu4) ⟨q706, q707, q150, q708, rfl, rfl⟩ dv8_init rfl ⟨(Nat.le_of_ble_eq_true rfl), (Nat.le_of_ble_eq_true rfl)⟩ rfl (Nat.le_of_ble_eq_true rfl) dX7_sign_122 (hcs_ret (x := ()) (r := ()) hcs) ?_
                obtain ⟨ht, hr⟩ := xth_s hf
                rw [hr]
                exact t_athrow ht q743 (hcs_ret (x := ()) (r := ()) hcs) dX7_sign_125
theorem t7_sign_b46 {G : CG} {A : Nat → Prop} {l : Launch} {a : List PV} {mc ms ce sl : Nat} (hfl : l.stackTraces = false) {r : (Nat ⊕ (Unit)) × Sg} {c0 n0 : Nat} (v0 : Option Nat) (v1 : Int) (v2 : Int) (s0 : Int) (u : Sg) (hcs : ce + c0 ≤ mc ∧ sl + n0 ≤ ms) (hf : f7_sign_b46 G v0 v1 v2 s0 u = some (r, c0, n0)) : JW kC (bC G A) A l D7_sign a (tQQ yX7_sign G A a (omV r.1) r.2 mc ms) mc ms u ce sl 46 [(0, pR v0), (1, pI v1), (2, pI v2)] [pI s0] := by
  unfold f7_sign_b46 at hf
  refine j_istore_n dX7_sign_46 [(3, pI s0), (0, pR v0), (1, pI v1), (2, pI v2)] (Nat.le_of_ble_eq_true rfl) rfl ?_
  refine j_aload_n dX7_sign_47 1 rfl ?_
  refine j_iconst dX7_sign_48 ?_
  obtain ⟨u1, hu1, hf⟩ := ob hf
  refine c_puti (ci := 7) (k := 1) hu1 zcl_7 (Nat.le_of_ble_eq_true rfl) zf_X7_46 fk_281 rfl fits_I dX7_sign_49 ?_
  refine j_aload_n dX7_sign_52 1 rfl ?_
  refine j_iload_n dX7_sign_53 0 rfl ?_
  refine j_if_eq (w32 s0) rfl 67 dX7_sign_54 (by decide) (fun h2 => ?_) (fun h2 => ?_)
  · replace hf := it h2 hf
    refine j_iload_n dX7_sign_67 2 rfl ?_
    exact j_sub [1, 2, 0] _ rfl (t7_sign_b68 hfl v0 v1 s0 v0 v1 u1 hcs hf)
  · replace hf := ie h2 hf
    refine j_sipush dX7_sign_57 (by decide) ?_
    refine j_iload_n dX7_sign_60 2 rfl ?_
    refine j_imul dX7_sign_61 ?_
    refine j_iload_n dX7_sign_62 3 rfl ?_
    refine j_iadd dX7_sign_63 ?_
    refine j_goto 68 dX7_sign_64 (by decide) ?_
    exact j_sub [1, 2, 0] _ rfl (t7_sign_b68 hfl v0 v1 s0 v0 ((256 * v1) + v2) u1 hcs hf)
theorem t7_sign_b45 {G : CG} {A : Nat → Prop} {l : Launch} {a : List PV} {mc ms ce sl : Nat} (hfl : l.stackTraces = false) {r : (Nat ⊕ (Unit)) × Sg} {c0 n0 : Nat} (v0 : Option Nat) (v1 : Int) (v2 : Int) (u : Sg) (hcs : ce + c0 ≤ mc ∧ sl + n0 ≤ ms) (hf : f7_sign_b45 G v0 v1 v2 u = some (r, c0, n0)) : JW kC (bC G A) A l D7_sign a (tQQ yX7_sign G A a (omV r.1) r.2 mc ms) mc ms u ce sl 45 [(0, pR v0), (1, pI v1), (2, pI v2)] [] := by
  unfold f7_sign_b45 at hf
  refine j_iconst dX7_sign_45 ?_
  exact j_sub [0, 1, 2] _ rfl (t7_sign_b46 hfl v0 v1 v2 0 u hcs hf)
theorem t7_sign_b41 {G : CG} {A : Nat → Prop} {l : Launch} {a : List PV} {mc ms ce sl : Nat} (hfl : l.stackTraces = false) {r : (Nat ⊕ (Unit)) × Sg} {c0 n0 : Nat} (v0 : Option Nat) (v1 : Int) (v2 : Int) (u : Sg) (hcs : ce + c0 ≤ mc ∧ sl + n0 ≤ ms) (hf : f7_sign_b41 G v0 v1 v2 u = some (r, c0, n0)) : JW kC (bC G A) A l D7_sign a (tQQ yX7_sign G A a (omV r.1) r.2 mc ms) mc ms u ce sl 41 [(0, pR v0), (1, pI v1), (2, pI v2)] [] := by
  unfold f7_sign_b41 at hf
  refine j_iconst dX7_sign_41 ?_
  refine j_goto 46 dX7_sign_42 (by decide) ?_
  exact j_sub [0, 1, 2] _ rfl (t7_sign_b46 hfl v0 v1 v2 1 u hcs hf)
theorem t7_sign_b29 {G : CG} {A : Nat → Prop} {l : Launch} {a : List PV} {mc ms ce sl : Nat} (hfl : l.stackTraces = false) {r : (Nat ⊕ (Unit)) × Sg} {c0 n0 : Nat} (v0 : Option Nat) (v1 : Int) (v2 : Int) (u : Sg) (hcs : ce + c0 ≤ mc ∧ sl + n0 ≤ ms) (hf : f7_sign_b29 G v0 v1 v2 u = some (r, c0, n0)) : JW kC (bC G A) A l D7_sign a (tQQ yX7_sign G A a (omV r.1) r.2 mc ms) mc ms u ce sl 29 [(0, pR v0), (1, pI v1), (2, pI v2)] [] := by
  unfold f7_sign_b29 at hf
  refine j_iload_n dX7_sign_29 1 rfl ?_
  refine j_bipush dX7_sign_30 (by decide) ?_
  refine j_icmp_ne (w32 v1) 60 rfl rfl 45 dX7_sign_32 (by decide) (fun h2 => ?_) (fun h2 => ?_)
  · replace hf := ie h2 hf
    exact j_sub [0, 1, 2] _ rfl (t7_sign_b45 hfl v0 v1 v2 u hcs hf)
  · replace hf := it h2 hf
    refine j_iload_n dX7_sign_35 2 rfl ?_
    refine j_bipush dX7_sign_36 (by decide) ?_
    refine j_icmp_ne (w32 v2) 62 rfl rfl 45 dX7_sign_38 (by decide) (fun h1 => ?_) (fun h1 => ?_)
    · replace hf := ie h1 hf
      exact j_sub [0, 1, 2] _ rfl (t7_sign_b45 hfl v0 v1 v2 u hcs hf)
    · replace hf := it h1 hf
      exact j_sub [0, 1, 2] _ rfl (t7_sign_b41 hfl v0 v1 v2 u hcs hf)
theorem t7_sign {G : CG} {A : Nat → Prop} {l : Launch} (hfl : l.stackTraces = false) {r : (Nat ⊕ (Unit)) × Sg} {c0 n0 : Nat} (v0 : Option Nat) (v1 : Int) (u : Sg) (hf : f7_sign G v0 v1 u = some (r, c0, n0)) : JMT G A l yX7_sign D7_sign [pR v0, pI v1] u (omV r.1) r.2 c0 n0 := by
  refine t_met (lv0 := [(0, pR v0), (1, pI v1)]) ⟨pl_X7, rfl, rfl, (Nat.le_of_ble_eq_true rfl), rfl⟩ ?_
  have hcs : 0 + c0 ≤ c0 ∧ 0 + n0 ≤ n0 := ⟨by omega, by omega⟩
  unfold f7_sign at hf
  refine j_aload_n dX7_sign_0 0 rfl ?_
  refine j_aload_n dX7_sign_1 0 rfl ?_
  obtain ⟨x1, hx1, hf⟩ := ob hf
  refine c_geti (ci := 7) (k := 0) hx1 zcl_7 (Nat.le_of_ble_eq_true rfl) zf_X7_33 fk_280 dX7_sign_2 ?_
  refine j_iconst dX7_sign_5 ?_
  refine j_iadd dX7_sign_6 ?_
  obtain ⟨b2, hb2, hf⟩ := ob hf
  obtain ⟨eb2, tb2⟩ := ztg_s hb2
  obtain ⟨x3, hx3, hf⟩ := ob hf
  refine a_Vr [pI (x1 + 1)] [] (t7_octet (some b2) (x1 + 1) u hx3) ⟨q655, q657, qs5, q146, q658⟩ dv7_octet rfl ⟨(Nat.le_of_ble_eq_true rfl), (Nat.le_of_ble_eq_true rfl)⟩ (c_recv zcl_7 tb2) (by rw [← eb2]; rfl) (Nat.le_of_ble_eq_true rfl) dX7_sign_7 (hcs_ret (x := ()) (r := ()) hcs) ?_
  refine j_istore_n dX7_sign_10 [(2, pI x3), (0, pR v0), (1, pI v1)] (Nat.le_of_ble_eq_true rfl) rfl ?_
  refine j_iload_n dX7_sign_11 0 rfl ?_
  refine j_bipush dX7_sign_12 (by decide) ?_
  refine j_icmp_ne (w32 x3) 61 rfl rfl 29 dX7_sign_14 (by decide) (fun h6 => ?_) (fun h6 => ?_)
  · replace hf := ie h6 hf
    exact j_sub [1, 2, 0] _ rfl (t7_sign_b29 hfl v0 v1 x3 u hcs hf)
  · replace hf := it h6 hf
    refine j_iload_n dX7_sign_17 2 rfl ?_
    refine j_bipush dX7_sign_18 (by decide) ?_
    refine j_icmp_eq (w32 v1) 60 rfl rfl 41 dX7_sign_20 (by decide) (fun h5 => ?_) (fun h5 => ?_)
    · replace hf := it h5 hf
      exact j_sub [1, 2, 0] _ rfl (t7_sign_b41 hfl v0 v1 x3 u hcs hf)
    · replace hf := ie h5 hf
      refine j_iload_n dX7_sign_23 2 rfl ?_
      refine j_bipush dX7_sign_24 (by decide) ?_
      refine j_icmp_eq (w32 v1) 62 rfl rfl 41 dX7_sign_26 (by decide) (fun h4 => ?_) (fun h4 => ?_)
      · replace hf := it h4 hf
        exact j_sub [1, 2, 0] _ rfl (t7_sign_b41 hfl v0 v1 x3 u hcs hf)
      · replace hf := ie h4 hf
        exact j_sub [1, 2, 0] _ rfl (t7_sign_b29 hfl v0 v1 x3 u hcs hf)
theorem t7_next_b234 {G : CG} {A : Nat → Prop} {l : Launch} {a : List PV} {mc ms : Nat} (hfl : l.stackTraces = false) {r : (Nat ⊕ (Unit)) × Sg} {Kf : Sg → Option (((Nat ⊕ (Unit)) × Sg) × Nat × Nat)} {v0 : Option Nat} (kh : Sg → Option ((Sg) × Nat × Nat)) (hkh : ∀ (zu : Sg) {ce sl c0 n0 : Nat}, ce + c0 ≤ mc ∧ sl + n0 ≤ ms → (bdU (kh zu) Kf = some (r, c0, n0)) → JW kC (bC G A) A l D7_next a (tQQ yX7_next G A a (omV r.1) r.2 mc ms) mc ms zu ce sl 178 [(0, pR v0)] []) (hK0 : ∀ (q : Sg) {ce sl c0 n0 : Nat}, ce + c0 ≤ mc ∧ sl + n0 ≤ ms → Kf q = some (r, c0, n0) → JW kC (bC G A) A l D7_next a (tQQ yX7_next G A a (omV r.1) r.2 mc ms) mc ms q ce sl 250 [(0, pR v0)] []) (s0 : Option Nat) (s1 : Int) (u : Sg) {ce sl c0 n0 : Nat} (hcs : ce + c0 ≤ mc ∧ sl + n0 ≤ ms) (hf : bdU (f7_next_b234 G kh v0 s0 s1 u) Kf = some (r, c0, n0)) : JW kC (bC G A) A l D7_next a (tQQ yX7_next G A a (omV r.1) r.2 mc ms) mc ms u ce sl 234 [(0, pR v0)] [pI s1, pR s0] := by
  unfold f7_next_b234 at hf
  obtain ⟨u1, hu1, hf⟩ := obK hf
  refine c_puti (ci := 7) (k := 4) hu1 zcl_7 (Nat.le_of_ble_eq_true rfl) zf_X7_69 fk_284 rfl fits_I dX7_next_234 ?_
  refine j_aload_n dX7_next_237 0 rfl ?_
  refine j_dup dX7_next_238 rfl ?_
  obtain ⟨x2, hx2, hf⟩ := obK hf
  refine c_geti (ci := 7) (k := 0) hx2 zcl_7 (Nat.le_of_ble_eq_true rfl) zf_X7_33 fk_280 dX7_next_239 ?_
  refine j_iconst dX7_next_242 ?_
  refine j_iadd dX7_next_243 ?_
  obtain ⟨u3, hu3, hf⟩ := obK hf
  refine c_puti (ci := 7) (k := 0) hu3 zcl_7 (Nat.le_of_ble_eq_true rfl) zf_X7_33 fk_280 rfl fits_I dX7_next_244 ?_
  refine j_goto 178 dX7_next_247 (by decide) ?_
  exact j_sub [0] _ rfl (hkh u3 hcs hf)
theorem t7_next_l178 {G : CG} {A : Nat → Prop} {l : Launch} {a : List PV} {mc ms : Nat} (hfl : l.stackTraces = false) {r : (Nat ⊕ (Unit)) × Sg} {Kf : Sg → Option (((Nat ⊕ (Unit)) × Sg) × Nat × Nat)} (v0 : Option Nat) (hK0 : ∀ (q : Sg) {ce sl c0 n0 : Nat}, ce + c0 ≤ mc ∧ sl + n0 ≤ ms → Kf q = some (r, c0, n0) → JW kC (bC G A) A l D7_next a (tQQ yX7_next G A a (omV r.1) r.2 mc ms) mc ms q ce sl 250 [(0, pR v0)] []) : ∀ (n : Nat) (u : Sg) {ce sl c0 n0 : Nat}, ce + c0 ≤ mc ∧ sl + n0 ≤ ms → (bdU (f7_next_l178 G v0 n u) Kf = some (r, c0, n0)) → JW kC (bC G A) A l D7_next a (tQQ yX7_next G A a (omV r.1) r.2 mc ms) mc ms u ce sl 178 [(0, pR v0)] [] := by
  intro n
  induction n with
  | zero => intro u ce sl c0 n0 hcs hf; exact onK hf
  | succ n ih =>
    intro u ce sl c0 n0 hcs hf
    unfold f7_next_l178 at hf
    refine j_aload_n dX7_next_178 0 rfl ?_
    refine j_aload_n dX7_next_179 0 rfl ?_
    refine j_aload_n dX7_next_180 0 rfl ?_
    obtain ⟨x1, hx1, hf⟩ := obK hf
    refine c_geti (ci := 7) (k := 0) hx1 zcl_7 (Nat.le_of_ble_eq_true rfl) zf_X7_33 fk_280 dX7_next_181 ?_
    obtain ⟨b2, hb2, hf⟩ := obK hf
    obtain ⟨eb2, tb2⟩ := ztg_s hb2
    obtain ⟨x3, hx3, hf⟩ := obK hf
    refine a_Vr [pI x1] [pR v0] (t7_octet (some b2) x1 u hx3) ⟨q655, q657, qs5, q146, q658⟩ dv7_octet rfl ⟨(Nat.le_of_ble_eq_true rfl), (Nat.le_of_ble_eq_true rfl)⟩ (c_recv zcl_7 tb2) (by rw [← eb2]; rfl) (Nat.le_of_ble_eq_true rfl) dX7_next_184 (hcs_ret (x := ()) (r := ()) hcs) ?_
    obtain ⟨b4, hb4, hf⟩ := obK hf
    obtain ⟨eb4, tb4⟩ := ztg_s hb4
    obtain ⟨x5, hx5, hf⟩ := obK hf
    refine a_Vr [pI x3] [] (t7_isFigure (some b4) x3 u hx5) ⟨q663, q665, qs7, q146, q666⟩ dv7_isFigure rfl ⟨(Nat.le_of_ble_eq_true rfl), (Nat.le_of_ble_eq_true rfl)⟩ (c_recv zcl_7 tb4) (by rw [← eb4]; rfl) (Nat.le_of_ble_eq_true rfl) dX7_next_187 (hcs_ret (x := ()) (r := ()) hcs) ?_
    refine j_if_eq (w32 x5) rfl 250 dX7_next_190 (by decide) (fun h14 => ?_) (fun h14 => ?_)
    · replace hf := itK h14 hf
      exact j_sub [0] _ rfl (hK0 u hcs (bdU_0 hf))
    · replace hf := ieK h14 hf
      refine j_aload_n dX7_next_193 0 rfl ?_
      refine j_aload_n dX7_next_194 0 rfl ?_
      obtain ⟨x6, hx6, hf⟩ := obK hf
      refine c_geti (ci := 7) (k := 0) hx6 zcl_7 (Nat.le_of_ble_eq_true rfl) zf_X7_33 fk_280 dX7_next_195 ?_
      refine j_aload_n dX7_next_198 0 rfl ?_
      obtain ⟨x7, hx7, hf⟩ := obK hf
      refine c_geti (ci := 7) (k := 2) hx7 zcl_7 (Nat.le_of_ble_eq_true rfl) zf_X7_43 fk_282 dX7_next_199 ?_
      refine j_isub dX7_next_202 ?_
      refine j_bipush dX7_next_203 (by decide) ?_
      refine j_icmp_ge (w32 (x6 - x7)) 9 rfl rfl 230 dX7_next_205 (by decide) (fun h13 => ?_) (fun h13 => ?_)
      · replace hf := itK h13 hf
        refine j_aload_n dX7_next_230 0 rfl ?_
        obtain ⟨x8, hx8, hf⟩ := obK hf
        refine c_geti (ci := 7) (k := 4) hx8 zcl_7 (Nat.le_of_ble_eq_true rfl) zf_X7_69 fk_284 dX7_next_231 ?_
        exact j_sub [0] _ rfl (t7_next_b234 hfl (f7_next_l178 G v0 n) ih hK0 v0 x8 u hcs hf)
      · replace hf := ieK h13 hf
        refine j_bipush dX7_next_208 (by decide) ?_
        refine j_aload_n dX7_next_210 0 rfl ?_
        obtain ⟨x9, hx9, hf⟩ := obK hf
        refine c_geti (ci := 7) (k := 4) hx9 zcl_7 (Nat.le_of_ble_eq_true rfl) zf_X7_69 fk_284 dX7_next_211 ?_
        refine j_imul dX7_next_214 ?_
        refine j_aload_n dX7_next_215 0 rfl ?_
        refine j_aload_n dX7_next_216 0 rfl ?_
        obtain ⟨x10, hx10, hf⟩ := obK hf
        refine c_geti (ci := 7) (k := 0) hx10 zcl_7 (Nat.le_of_ble_eq_true rfl) zf_X7_33 fk_280 dX7_next_217 ?_
        obtain ⟨b11, hb11, hf⟩ := obK hf
        obtain ⟨eb11, tb11⟩ := ztg_s hb11
        obtain ⟨x12, hx12, hf⟩ := obK hf
        refine a_Vr [pI x10] [pI (10 * x9), pR v0] (t7_octet (some b11) x10 u hx12) ⟨q655, q657, qs5, q146, q658⟩ dv7_octet rfl ⟨(Nat.le_of_ble_eq_true rfl), (Nat.le_of_ble_eq_true rfl)⟩ (c_recv zcl_7 tb11) (by rw [← eb11]; rfl) (Nat.le_of_ble_eq_true rfl) dX7_next_220 (hcs_ret (x := ()) (r := ()) hcs) ?_
        refine j_iadd dX7_next_223 ?_
        refine j_bipush dX7_next_224 (by decide) ?_
        refine j_isub dX7_next_226 ?_
        refine j_goto 234 dX7_next_227 (by decide) ?_
        exact j_sub [0] _ rfl (t7_next_b234 hfl (f7_next_l178 G v0 n) ih hK0 v0 (((10 * x9) + x12) - 48) u hcs hf)
theorem t7_next_b76 {G : CG} {A : Nat → Prop} {l : Launch} {a : List PV} {mc ms : Nat} (hfl : l.stackTraces = false) {r : (Nat ⊕ (Unit)) × Sg} {Kf : Sg → Option (((Nat ⊕ (Unit)) × Sg) × Nat × Nat)} {v0 : Option Nat} (kh : Sg → Option ((Sg) × Nat × Nat)) (hkh : ∀ (zu : Sg) {ce sl c0 n0 : Nat}, ce + c0 ≤ mc ∧ sl + n0 ≤ ms → (bdU (kh zu) Kf = some (r, c0, n0)) → JW kC (bC G A) A l D7_next a (tQQ yX7_next G A a (omV r.1) r.2 mc ms) mc ms zu ce sl 46 [(0, pR v0)] []) (hK0 : ∀ (q : Sg) {ce sl c0 n0 : Nat}, ce + c0 ≤ mc ∧ sl + n0 ≤ ms → Kf q = some (r, c0, n0) → JW kC (bC G A) A l D7_next a (tQQ yX7_next G A a (omV r.1) r.2 mc ms) mc ms q ce sl 107 [(0, pR v0)] []) (u : Sg) {ce sl c0 n0 : Nat} (hcs : ce + c0 ≤ mc ∧ sl + n0 ≤ ms) (hf : bdU (f7_next_b76 G kh v0 u) Kf = some (r, c0, n0)) : JW kC (bC G A) A l D7_next a (tQQ yX7_next G A a (omV r.1) r.2 mc ms) mc ms u ce sl 76 [(0, pR v0)] [] := by
  unfold f7_next_b76 at hf
  refine j_aload_n dX7_next_76 0 rfl ?_
  refine j_aload_n dX7_next_77 0 rfl ?_
  obtain ⟨x1, hx1, hf⟩ := obK hf
  refine c_getl (ci := 7) (k := 3) hx1 zcl_7 (Nat.le_of_ble_eq_true rfl) zf_X7_53 fk_283 dX7_next_78 ?_
  refine j_bipush dX7_next_81 (by decide) ?_
  refine j_lshl dX7_next_83 ?_
  refine j_aload_n dX7_next_84 0 rfl ?_
  refine j_aload_n dX7_next_85 0 rfl ?_
  refine j_dup dX7_next_86 rfl ?_
  obtain ⟨x2, hx2, hf⟩ := obK hf
  refine c_geti (ci := 7) (k := 0) hx2 zcl_7 (Nat.le_of_ble_eq_true rfl) zf_X7_33 fk_280 dX7_next_87 ?_
  refine j_dup_x1 dX7_next_90 rfl rfl ?_
  refine j_iconst dX7_next_91 ?_
  refine j_iadd dX7_next_92 ?_
  obtain ⟨u3, hu3, hf⟩ := obK hf
  refine c_puti (ci := 7) (k := 0) hu3 zcl_7 (Nat.le_of_ble_eq_true rfl) zf_X7_33 fk_280 rfl fits_I dX7_next_93 ?_
  obtain ⟨b4, hb4, hf⟩ := obK hf
  obtain ⟨eb4, tb4⟩ := ztg_s hb4
  obtain ⟨x5, hx5, hf⟩ := obK hf
  refine a_Vr [pI x2] [pL (shl64 x1 8), pR v0] (t7_octet (some b4) x2 u3 hx5) ⟨q655, q657, qs5, q146, q658⟩ dv7_octet rfl ⟨(Nat.le_of_ble_eq_true rfl), (Nat.le_of_ble_eq_true rfl)⟩ (c_recv zcl_7 tb4) (by rw [← eb4]; rfl) (Nat.le_of_ble_eq_true rfl) dX7_next_96 (hcs_ret (x := ()) (r := ()) hcs) ?_
  refine j_i2l dX7_next_99 ?_
  refine j_lor dX7_next_100 ?_
  obtain ⟨u6, hu6, hf⟩ := obK hf
  refine c_putl (ci := 7) (k := 3) hu6 zcl_7 (Nat.le_of_ble_eq_true rfl) zf_X7_53 fk_283 rfl fits_L dX7_next_101 ?_
  refine j_goto 46 dX7_next_104 (by decide) ?_
  exact j_sub [0] _ rfl (hkh u6 hcs hf)
theorem t7_next_l46 {G : CG} {A : Nat → Prop} {l : Launch} {a : List PV} {mc ms : Nat} (hfl : l.stackTraces = false) {r : (Nat ⊕ (Unit)) × Sg} {Kf : Sg → Option (((Nat ⊕ (Unit)) × Sg) × Nat × Nat)} (v0 : Option Nat) (hK0 : ∀ (q : Sg) {ce sl c0 n0 : Nat}, ce + c0 ≤ mc ∧ sl + n0 ≤ ms → Kf q = some (r, c0, n0) → JW kC (bC G A) A l D7_next a (tQQ yX7_next G A a (omV r.1) r.2 mc ms) mc ms q ce sl 107 [(0, pR v0)] []) : ∀ (n : Nat) (u : Sg) {ce sl c0 n0 : Nat}, ce + c0 ≤ mc ∧ sl + n0 ≤ ms → (bdU (f7_next_l46 G v0 n u) Kf = some (r, c0, n0)) → JW kC (bC G A) A l D7_next a (tQQ yX7_next G A a (omV r.1) r.2 mc ms) mc ms u ce sl 46 [(0, pR v0)] [] := by
  intro n
  induction n with
  | zero => intro u ce sl c0 n0 hcs hf; exact onK hf
  | succ n ih =>
    intro u ce sl c0 n0 hcs hf
    unfold f7_next_l46 at hf
    refine j_aload_n dX7_next_46 0 rfl ?_
    refine j_aload_n dX7_next_47 0 rfl ?_
    refine j_aload_n dX7_next_48 0 rfl ?_
    obtain ⟨x1, hx1, hf⟩ := obK hf
    refine c_geti (ci := 7) (k := 0) hx1 zcl_7 (Nat.le_of_ble_eq_true rfl) zf_X7_33 fk_280 dX7_next_49 ?_
    obtain ⟨b2, hb2, hf⟩ := obK hf
    obtain ⟨eb2, tb2⟩ := ztg_s hb2
    obtain ⟨x3, hx3, hf⟩ := obK hf
    refine a_Vr [pI x1] [pR v0] (t7_octet (some b2) x1 u hx3) ⟨q655, q657, qs5, q146, q658⟩ dv7_octet rfl ⟨(Nat.le_of_ble_eq_true rfl), (Nat.le_of_ble_eq_true rfl)⟩ (c_recv zcl_7 tb2) (by rw [← eb2]; rfl) (Nat.le_of_ble_eq_true rfl) dX7_next_52 (hcs_ret (x := ()) (r := ()) hcs) ?_
    obtain ⟨b4, hb4, hf⟩ := obK hf
    obtain ⟨eb4, tb4⟩ := ztg_s hb4
    obtain ⟨x5, hx5, hf⟩ := obK hf
    refine a_Vr [pI x3] [] (t7_isLetter (some b4) x3 u hx5) ⟨q659, q661, qs6, q146, q662⟩ dv7_isLetter rfl ⟨(Nat.le_of_ble_eq_true rfl), (Nat.le_of_ble_eq_true rfl)⟩ (c_recv zcl_7 tb4) (by rw [← eb4]; rfl) (Nat.le_of_ble_eq_true rfl) dX7_next_55 (hcs_ret (x := ()) (r := ()) hcs) ?_
    refine j_if_ne (w32 x5) rfl 76 dX7_next_58 (by decide) (fun h12 => ?_) (fun h12 => ?_)
    · replace hf := ieK h12 hf
      exact j_sub [0] _ rfl (t7_next_b76 hfl (f7_next_l46 G v0 n) ih hK0 u hcs hf)
    · replace hf := itK h12 hf
      refine j_aload_n dX7_next_61 0 rfl ?_
      refine j_aload_n dX7_next_62 0 rfl ?_
      refine j_aload_n dX7_next_63 0 rfl ?_
      obtain ⟨x6, hx6, hf⟩ := obK hf
      refine c_geti (ci := 7) (k := 0) hx6 zcl_7 (Nat.le_of_ble_eq_true rfl) zf_X7_33 fk_280 dX7_next_64 ?_
      obtain ⟨b7, hb7, hf⟩ := obK hf
      obtain ⟨eb7, tb7⟩ := ztg_s hb7
      obtain ⟨x8, hx8, hf⟩ := obK hf
      refine a_Vr [pI x6] [pR v0] (t7_octet (some b7) x6 u hx8) ⟨q655, q657, qs5, q146, q658⟩ dv7_octet rfl ⟨(Nat.le_of_ble_eq_true rfl), (Nat.le_of_ble_eq_true rfl)⟩ (c_recv zcl_7 tb7) (by rw [← eb7]; rfl) (Nat.le_of_ble_eq_true rfl) dX7_next_67 (hcs_ret (x := ()) (r := ()) hcs) ?_
      obtain ⟨b9, hb9, hf⟩ := obK hf
      obtain ⟨eb9, tb9⟩ := ztg_s hb9
      obtain ⟨x10, hx10, hf⟩ := obK hf
      refine a_Vr [pI x8] [] (t7_isFigure (some b9) x8 u hx10) ⟨q663, q665, qs7, q146, q666⟩ dv7_isFigure rfl ⟨(Nat.le_of_ble_eq_true rfl), (Nat.le_of_ble_eq_true rfl)⟩ (c_recv zcl_7 tb9) (by rw [← eb9]; rfl) (Nat.le_of_ble_eq_true rfl) dX7_next_70 (hcs_ret (x := ()) (r := ()) hcs) ?_
      refine j_if_eq (w32 x10) rfl 107 dX7_next_73 (by decide) (fun h11 => ?_) (fun h11 => ?_)
      · replace hf := itK h11 hf
        exact j_sub [0] _ rfl (hK0 u hcs (bdU_0 hf))
      · replace hf := ieK h11 hf
        exact j_sub [0] _ rfl (t7_next_b76 hfl (f7_next_l46 G v0 n) ih hK0 u hcs hf)
theorem t7_next {G : CG} {A : Nat → Prop} {l : Launch} (hfl : l.stackTraces = false) {r : (Nat ⊕ (Unit)) × Sg} {c0 n0 : Nat} (v0 : Option Nat) (u : Sg) (hf : f7_next G v0 u = some (r, c0, n0)) : JMT G A l yX7_next D7_next [pR v0] u (omV r.1) r.2 c0 n0 := by
  refine t_met (lv0 := [(0, pR v0)]) ⟨pl_X7, rfl, rfl, (Nat.le_of_ble_eq_true rfl), rfl⟩ ?_
  have hcs : 0 + c0 ≤ c0 ∧ 0 + n0 ≤ n0 := ⟨by omega, by omega⟩
  unfold f7_next at hf
  refine j_aload_n dX7_next_0 0 rfl ?_
  obtain ⟨b1, hb1, hf⟩ := ob hf
  obtain ⟨eb1, tb1⟩ := ztg_s hb1
  obtain ⟨u2, hu2, hf⟩ := ob hf
  refine a_Vv [] [] (t7_pass (some b1) u hu2) ⟨q651, q653, qs4, q146, q654⟩ dv7_pass rfl ⟨(Nat.le_of_ble_eq_true rfl), (Nat.le_of_ble_eq_true rfl)⟩ (c_recv zcl_7 tb1) (by rw [← eb1]; rfl) (Nat.le_of_ble_eq_true rfl) dX7_next_1 (hcs_ret (x := ()) (r := ()) hcs) ?_
  refine j_aload_n dX7_next_4 0 rfl ?_
  refine j_aload_n dX7_next_5 0 rfl ?_
  obtain ⟨x3, hx3, hf⟩ := ob hf
  refine c_geti (ci := 7) (k := 0) hx3 zcl_7 (Nat.le_of_ble_eq_true rfl) zf_X7_33 fk_280 dX7_next_6 ?_
  obtain ⟨u4, hu4, hf⟩ := ob hf
  refine c_puti (ci := 7) (k := 2) hu4 zcl_7 (Nat.le_of_ble_eq_true rfl) zf_X7_43 fk_282 rfl fits_I dX7_next_9 ?_
  refine j_aload_n dX7_next_12 0 rfl ?_
  refine j_aload_n dX7_next_13 0 rfl ?_
  obtain ⟨x5, hx5, hf⟩ := ob hf
  refine c_geti (ci := 7) (k := 0) hx5 zcl_7 (Nat.le_of_ble_eq_true rfl) zf_X7_33 fk_280 dX7_next_14 ?_
  obtain ⟨b6, hb6, hf⟩ := ob hf
  obtain ⟨eb6, tb6⟩ := ztg_s hb6
  obtain ⟨x7, hx7, hf⟩ := ob hf
  refine a_Vr [pI x5] [] (t7_octet (some b6) x5 u4 hx7) ⟨q655, q657, qs5, q146, q658⟩ dv7_octet rfl ⟨(Nat.le_of_ble_eq_true rfl), (Nat.le_of_ble_eq_true rfl)⟩ (c_recv zcl_7 tb6) (by rw [← eb6]; rfl) (Nat.le_of_ble_eq_true rfl) dX7_next_17 (hcs_ret (x := ()) (r := ()) hcs) ?_
  refine j_istore_n dX7_next_20 [(1, pI x7), (0, pR v0)] (Nat.le_of_ble_eq_true rfl) rfl ?_
  refine j_iload_n dX7_next_21 0 rfl ?_
  refine j_if_ge (w32 x7) rfl 33 dX7_next_22 (by decide) (fun h43 => ?_) (fun h43 => ?_)
  · replace hf := it h43 hf
    refine j_aload_n dX7_next_33 1 rfl ?_
    refine j_iload_n dX7_next_34 0 rfl ?_
    obtain ⟨b8, hb8, hf⟩ := ob hf
    obtain ⟨eb8, tb8⟩ := ztg_s hb8
    obtain ⟨x9, hx9, hf⟩ := ob hf
    refine a_Vr [pI x7] [] (t7_isLetter (some b8) x7 u4 hx9) ⟨q659, q661, qs6, q146, q662⟩ dv7_isLetter rfl ⟨(Nat.le_of_ble_eq_true rfl), (Nat.le_of_ble_eq_true rfl)⟩ (c_recv zcl_7 tb8) (by rw [← eb8]; rfl) (Nat.le_of_ble_eq_true rfl) dX7_next_35 (hcs_ret (x := ()) (r := ()) hcs) ?_
    refine j_if_eq (w32 x9) rfl 160 dX7_next_38 (by decide) (fun h41 => ?_) (fun h41 => ?_)
    · replace hf := it h41 hf
      refine j_aload_n dX7_next_160 1 rfl ?_
      refine j_iload_n dX7_next_161 0 rfl ?_
      obtain ⟨b10, hb10, hf⟩ := ob hf
      obtain ⟨eb10, tb10⟩ := ztg_s hb10
      obtain ⟨x11, hx11, hf⟩ := ob hf
      refine a_Vr [pI x7] [] (t7_isFigure (some b10) x7 u4 hx11) ⟨q663, q665, qs7, q146, q666⟩ dv7_isFigure rfl ⟨(Nat.le_of_ble_eq_true rfl), (Nat.le_of_ble_eq_true rfl)⟩ (c_recv zcl_7 tb10) (by rw [← eb10]; rfl) (Nat.le_of_ble_eq_true rfl) dX7_next_162 (hcs_ret (x := ()) (r := ()) hcs) ?_
      refine j_if_eq (w32 x11) rfl 277 dX7_next_165 (by decide) (fun h25 => ?_) (fun h25 => ?_)
      · replace hf := it h25 hf
        refine j_aload_n dX7_next_277 1 rfl ?_
        refine j_iload_n dX7_next_278 0 rfl ?_
        obtain ⟨b12, hb12, hf⟩ := ob hf
        obtain ⟨eb12, tb12⟩ := ztg_s hb12
        obtain ⟨q13, kq13, mq13, k_q13, m_q13, hq13, hf, hkq13, hmq13⟩ := bdU_s hf
        obtain ⟨hczq13, hcs⟩ := hcs_step hcs hkq13 hmq13
        have hMq13 := t7_sign (A := A) hfl (some b12) x7 u4 hq13
        rcases zq13 : q13.1 with e14 | x15
        · rw [zq13] at hf hMq13
          replace hf := telL hf
          obtain ⟨ht, hr⟩ := xth_s hf
          rw [hr]
          exact x_callV [pI x7] [] _ hMq13 ⟨q740, q742, qs10, q146, q743⟩ dv7_sign rfl ⟨(Nat.le_of_ble_eq_true rfl), (Nat.le_of_ble_eq_true rfl)⟩ (c_recv zcl_7 tb12) (by rw [← eb12]; rfl) (Nat.le_of_ble_eq_true rfl) dX7_next_279 hczq13 ht q650
        · rw [zq13] at hf hMq13
          replace hf := telR hf
          refine t_callV [pI x7] [] _ hMq13 ⟨q740, q742, qs10, q146, q743⟩ dv7_sign rfl ⟨(Nat.le_of_ble_eq_true rfl), (Nat.le_of_ble_eq_true rfl)⟩ (c_recv zcl_7 tb12) (by rw [← eb12]; rfl) (Nat.le_of_ble_eq_true rfl) dX7_next_279 hczq13 ?_
          replace hf := retU hf
          subst hf
          exact t_ofret (j_return (bC_mv G A) (hcs_ret (x := ()) (r := ()) hcs) rfl dX7_next_282)
      · replace hf := ie h25 hf
        refine j_aload_n dX7_next_168 1 rfl ?_
        refine j_iconst dX7_next_169 ?_
        obtain ⟨u16, hu16, hf⟩ := ob hf
        refine c_puti (ci := 7) (k := 1) hu16 zcl_7 (Nat.le_of_ble_eq_true rfl) zf_X7_46 fk_281 rfl fits_I dX7_next_170 ?_
        refine j_aload_n dX7_next_173 1 rfl ?_
        refine j_iconst dX7_next_174 ?_
        obtain ⟨u17, hu17, hf⟩ := ob hf
        refine c_puti (ci := 7) (k := 4) hu17 zcl_7 (Nat.le_of_ble_eq_true rfl) zf_X7_69 fk_284 rfl fits_I dX7_next_175 ?_
        refine j_sub [1] _ rfl (t7_next_l178 hfl v0 ?_ NN u17 hcs hf)
        · intro q18 ceq18 slq18 cq18 nq18 hcs hf
          refine j_aload_n dX7_next_250 0 rfl ?_
          obtain ⟨x19, hx19, hf⟩ := ob hf
          refine c_geti (ci := 7) (k := 0) hx19 zcl_7 (Nat.le_of_ble_eq_true rfl) zf_X7_33 fk_280 dX7_next_251 ?_
          refine j_aload_n dX7_next_254 0 rfl ?_
          obtain ⟨x20, hx20, hf⟩ := ob hf
          refine c_geti (ci := 7) (k := 2) hx20 zcl_7 (Nat.le_of_ble_eq_true rfl) zf_X7_43 fk_282 dX7_next_255 ?_
          refine j_isub dX7_next_258 ?_
          refine j_bipush dX7_next_259 (by decide) ?_
          refine j_icmp_le (w32 (x19 - x20)) 9 rfl rfl 282 dX7_next_261 (by decide) (fun h24 => ?_) (fun h24 => ?_)
          · replace hf := it h24 hf
            replace hf := retU hf
            subst hf
            exact t_ofret (j_return (bC_mv G A) (hcs_ret (x := ()) (r := ()) hcs) rfl dX7_next_282)
          · replace hf := ie h24 hf
            obtain ⟨q21, kq21, mq21, k_q21, m_q21, hq21, hf, hkq21, hmq21⟩ := bdU_s hf
            obtain ⟨hczq21, hcs⟩ := hcs_step hcs hkq21 hmq21
            refine c_new (ci := 8) hq21 zcl_8 zmk_8 q667 dX7_next_264 hczq21 ?_
            refine j_dup dX7_next_267 rfl ?_
            refine j_iconst dX7_next_268 ?_
            refine j_aload_n dX7_next_269 0 rfl ?_
            obtain ⟨x22, hx22, hf⟩ := ob hf
            refine c_geti (ci := 7) (k := 2) hx22 zcl_7 (Nat.le_of_ble_eq_true rfl) zf_X7_43 fk_282 dX7_next_270 ?_
            obtain ⟨u23, hu23, hf⟩ := ob hf
            refine c_callI [pI 1, pI x22] [pR (some q21.1)] _ (t8_init hfl (some q21.1) 1 x22 q21.2 hu23) ⟨q706, q707, q150, q708, rfl, rfl⟩ dv8_init rfl ⟨(Nat.le_of_ble_eq_true rfl), (Nat.le_of_ble_eq_true rfl)⟩ rfl (Nat.le_of_ble_eq_true rfl) dX7_next_273 (hcs_ret (x := ()) (r := ()) hcs) ?_
            obtain ⟨ht, hr⟩ := xth_s hf
            rw [hr]
            exact t_athrow ht q650 (hcs_ret (x := ()) (r := ()) hcs) dX7_next_276
    · replace hf := ie h41 hf
      refine j_aload_n dX7_next_41 1 rfl ?_
      refine j_lconst (z := 0) dX7_next_42 rfl ?_
      obtain ⟨u26, hu26, hf⟩ := ob hf
      refine c_putl (ci := 7) (k := 3) hu26 zcl_7 (Nat.le_of_ble_eq_true rfl) zf_X7_53 fk_283 rfl fits_L dX7_next_43 ?_
      refine j_sub [1] _ rfl (t7_next_l46 hfl v0 ?_ NN u26 hcs hf)
      · intro q27 ceq27 slq27 cq27 nq27 hcs hf
        refine j_aload_n dX7_next_107 0 rfl ?_
        obtain ⟨x28, hx28, hf⟩ := ob hf
        refine c_geti (ci := 7) (k := 0) hx28 zcl_7 (Nat.le_of_ble_eq_true rfl) zf_X7_33 fk_280 dX7_next_108 ?_
        refine j_aload_n dX7_next_111 0 rfl ?_
        obtain ⟨x29, hx29, hf⟩ := ob hf
        refine c_geti (ci := 7) (k := 2) hx29 zcl_7 (Nat.le_of_ble_eq_true rfl) zf_X7_43 fk_282 dX7_next_112 ?_
        refine j_isub dX7_next_115 ?_
        refine j_bipush dX7_next_116 (by decide) ?_
        refine j_icmp_le (w32 (x28 - x29)) 8 rfl rfl 134 dX7_next_118 (by decide) (fun h40 => ?_) (fun h40 => ?_)
        · replace hf := it h40 hf
          refine j_aload_n dX7_next_134 0 rfl ?_
          refine j_aload_n dX7_next_135 0 rfl ?_
          obtain ⟨x30, hx30, hf⟩ := ob hf
          refine c_geta (ci := 7) (k := 10) hx30 zcl_7 (Nat.le_of_ble_eq_true rfl) zf_X7_3 fk_290 dX7_next_136 ?_
          refine j_aload_n dX7_next_139 0 rfl ?_
          obtain ⟨x31, hx31, hf⟩ := ob hf
          refine c_getl (ci := 7) (k := 3) hx31 zcl_7 (Nat.le_of_ble_eq_true rfl) zf_X7_53 fk_283 dX7_next_140 ?_
          obtain ⟨b32, hb32, hf⟩ := ob hf
          obtain ⟨eb32, tb32⟩ := ztg_s hb32
          obtain ⟨x33, hx33, hf⟩ := ob hf
          refine a_Nr [pL x31] [pR v0] (t0_isWord (some b32) x31 q27 hx33) ⟨q736, q738, qs9, q128, q739⟩ dv0_isWord rfl ⟨(Nat.le_of_ble_eq_true rfl), (Nat.le_of_ble_eq_true rfl)⟩ (c_recv zcl_0 tb32) (by rw [← eb32]; rfl) (Nat.le_of_ble_eq_true rfl) dX7_next_143 (hcs_ret (x := ()) (r := ()) hcs) ?_
          refine j_if_eq (w32 x33) rfl 153 dX7_next_146 (by decide) (fun h36 => ?_) (fun h36 => ?_)
          · replace hf := it h36 hf
            refine j_iconst dX7_next_153 ?_
            obtain ⟨u34, hu34, hf⟩ := ob hf
            refine c_puti (ci := 7) (k := 1) hu34 zcl_7 (Nat.le_of_ble_eq_true rfl) zf_X7_46 fk_281 rfl fits_I dX7_next_154 ?_
            refine j_goto 282 dX7_next_157 (by decide) ?_
            replace hf := retU hf
            subst hf
            exact t_ofret (j_return (bC_mv G A) (hcs_ret (x := ()) (r := ()) hcs) rfl dX7_next_282)
          · replace hf := ie h36 hf
            refine j_iconst dX7_next_149 ?_
            refine j_goto 154 dX7_next_150 (by decide) ?_
            obtain ⟨u35, hu35, hf⟩ := ob hf
            refine c_puti (ci := 7) (k := 1) hu35 zcl_7 (Nat.le_of_ble_eq_true rfl) zf_X7_46 fk_281 rfl fits_I dX7_next_154 ?_
            refine j_goto 282 dX7_next_157 (by decide) ?_
            replace hf := retU hf
            subst hf
            exact t_ofret (j_return (bC_mv G A) (hcs_ret (x := ()) (r := ()) hcs) rfl dX7_next_282)
        · replace hf := ie h40 hf
          obtain ⟨q37, kq37, mq37, k_q37, m_q37, hq37, hf, hkq37, hmq37⟩ := bdU_s hf
          obtain ⟨hczq37, hcs⟩ := hcs_step hcs hkq37 hmq37
          refine c_new (ci := 8) hq37 zcl_8 zmk_8 q667 dX7_next_121 hczq37 ?_
          refine j_dup dX7_next_124 rfl ?_
          refine j_iconst dX7_next_125 ?_
          refine j_aload_n dX7_next_126 0 rfl ?_
          obtain ⟨x38, hx38, hf⟩ := ob hf
          refine c_geti (ci := 7) (k := 2) hx38 zcl_7 (Nat.le_of_ble_eq_true rfl) zf_X7_43 fk_282 dX7_next_127 ?_
          obtain ⟨u39, hu39, hf⟩ := ob hf
          refine c_callI [pI 1, pI x38] [pR (some q37.1)] _ (t8_init hfl (some q37.1) 1 x38 q37.2 hu39) ⟨q706, q707, q150, q708, rfl, rfl⟩ dv8_init rfl ⟨(Nat.le_of_ble_eq_true rfl), (Nat.le_of_ble_eq_true rfl)⟩ rfl (Nat.le_of_ble_eq_true rfl) dX7_next_130 (hcs_ret (x := ()) (r := ()) hcs) ?_
          obtain ⟨ht, hr⟩ := xth_s hf
          rw [hr]
          exact t_athrow ht q650 (hcs_ret (x := ()) (r := ()) hcs) dX7_next_133
  · replace hf := ie h43 hf
    refine j_aload_n dX7_next_25 1 rfl ?_
    refine j_iconst dX7_next_26 ?_
    obtain ⟨u42, hu42, hf⟩ := ob hf
    refine c_puti (ci := 7) (k := 1) hu42 zcl_7 (Nat.le_of_ble_eq_true rfl) zf_X7_46 fk_281 rfl fits_I dX7_next_27 ?_
    refine j_goto 282 dX7_next_30 (by decide) ?_
    replace hf := retU hf
    subst hf
    exact t_ofret (j_return (bC_mv G A) (hcs_ret (x := ()) (r := ()) hcs) rfl dX7_next_282)
theorem t7_init {G : CG} {A : Nat → Prop} {l : Launch} (hfl : l.stackTraces = false) {r : (Nat ⊕ (Unit)) × Sg} {c0 n0 : Nat} (v0 : Option Nat) (v1 : Option Nat) (v2 : Option Nat) (v3 : Int) (u : Sg) (hf : f7_init G v0 v1 v2 v3 u = some (r, c0, n0)) : JMT G A l yX7_init D7_init [pR v0, pR v1, pR v2, pI v3] u (omV r.1) r.2 c0 n0 := by
  refine t_met (lv0 := [(0, pR v0), (1, pR v1), (2, pR v2), (3, pI v3)]) ⟨pl_X7, rfl, rfl, (Nat.le_of_ble_eq_true rfl), rfl⟩ ?_
  have hcs : 0 + c0 ≤ c0 ∧ 0 + n0 ≤ n0 := ⟨by omega, by omega⟩
  unfold f7_init at hf
  refine j_aload_n dX7_init_0 0 rfl ?_
  refine j_aload_n dX7_init_1 1 rfl ?_
  obtain ⟨u1, hu1, hf⟩ := ob hf
  refine c_putaF (ci := 7) (k := 10) hu1 zcl_7 (Nat.le_of_ble_eq_true rfl) zf_X7_3 fk_290 rfl rfl rfl fits_O dX7_init_2 ?_
  refine j_aload_n dX7_init_5 0 rfl ?_
  obtain ⟨b2, eb2, hg⟩ := ob hf
  clear hf
  subst eb2
  have hf := hg
  clear hg
  refine c_objInit q646 q177 q178 (Nat.le_of_ble_eq_true rfl) (Nat.le_of_ble_eq_true rfl) (Nat.le_of_ble_eq_true rfl) dX7_init_6 ?_
  refine j_aload_n dX7_init_9 0 rfl ?_
  refine j_aload_n dX7_init_10 2 rfl ?_
  obtain ⟨u3, hu3, hf⟩ := ob hf
  refine c_puta (ci := 7) (k := 6) hu3 zcl_7 (Nat.le_of_ble_eq_true rfl) zf_X7_15 fk_286 rfl fits_O dX7_init_11 ?_
  refine j_aload_n dX7_init_14 0 rfl ?_
  refine j_iload_n dX7_init_15 3 rfl ?_
  obtain ⟨u4, hu4, hf⟩ := ob hf
  refine c_puti (ci := 7) (k := 9) hu4 zcl_7 (Nat.le_of_ble_eq_true rfl) zf_X7_19 fk_289 rfl fits_I dX7_init_16 ?_
  refine j_aload_n dX7_init_19 0 rfl ?_
  obtain ⟨b5, hb5, hf⟩ := ob hf
  obtain ⟨eb5, tb5⟩ := ztg_s hb5
  obtain ⟨q6, kq6, mq6, k_q6, m_q6, hq6, hf, hkq6, hmq6⟩ := bdU_s hf
  obtain ⟨hczq6, hcs⟩ := hcs_step hcs hkq6 hmq6
  have hMq6 := t7_next (A := A) hfl (some b5) u4 hq6
  rcases zq6 : q6.1 with e7 | x8
  · rw [zq6] at hf hMq6
    replace hf := telL hf
    obtain ⟨ht, hr⟩ := xth_s hf
    rw [hr]
    exact x_callV [] [] _ hMq6 ⟨q647, q649, qs3, q146, q650⟩ dv7_next rfl ⟨(Nat.le_of_ble_eq_true rfl), (Nat.le_of_ble_eq_true rfl)⟩ (c_recv zcl_7 tb5) (by rw [← eb5]; rfl) (Nat.le_of_ble_eq_true rfl) dX7_init_20 hczq6 ht q645
  · rw [zq6] at hf hMq6
    replace hf := telR hf
    refine t_callV [] [] _ hMq6 ⟨q647, q649, qs3, q146, q650⟩ dv7_next rfl ⟨(Nat.le_of_ble_eq_true rfl), (Nat.le_of_ble_eq_true rfl)⟩ (c_recv zcl_7 tb5) (by rw [← eb5]; rfl) (Nat.le_of_ble_eq_true rfl) dX7_init_20 hczq6 ?_
    replace hf := retU hf
    subst hf
    exact t_ofret (j_return (bC_mv G A) (hcs_ret (x := ()) (r := ()) hcs) rfl dX7_init_23)
theorem t16_init {G : CG} {A : Nat → Prop} {l : Launch} {r : Sg} (v0 : Option Nat) (v1 : Int) (v2 : Option Nat) (v3 : Int) (u : Sg) (hf : f16_init G v0 v1 v2 v3 u = some r) : JM kC (bC G A) A l yX16_init D16_init [pR v0, pI v1, pR v2, pI v3] u none r 0 0 := by
  refine j_met (lv0 := [(0, pR v0), (1, pI v1), (2, pR v2), (3, pI v3)]) ⟨pl_X16, rfl, rfl, (Nat.le_of_ble_eq_true rfl), rfl⟩ ?_
  unfold f16_init at hf
  refine j_aload_n dX16_init_0 0 rfl ?_
  obtain ⟨b1, eb1, hg⟩ := ob hf
  clear hf
  subst eb1
  have hf := hg
  clear hg
  refine c_objInit q1062 q177 q178 (Nat.le_of_ble_eq_true rfl) (Nat.le_of_ble_eq_true rfl) (Nat.le_of_ble_eq_true rfl) dX16_init_1 ?_
  refine j_aload_n dX16_init_4 0 rfl ?_
  refine j_iload_n dX16_init_5 1 rfl ?_
  obtain ⟨u2, hu2, hf⟩ := ob hf
  refine c_putiF (ci := 16) (k := 0) hu2 zcl_16 (Nat.le_of_ble_eq_true rfl) zf_X16_7 fk_640 rfl rfl rfl fits_I dX16_init_6 ?_
  refine j_aload_n dX16_init_9 0 rfl ?_
  refine j_aload_n dX16_init_10 2 rfl ?_
  obtain ⟨u3, hu3, hf⟩ := ob hf
  refine c_putaF (ci := 16) (k := 1) hu3 zcl_16 (Nat.le_of_ble_eq_true rfl) zf_X16_13 fk_641 rfl rfl rfl fits_O dX16_init_11 ?_
  refine j_aload_n dX16_init_14 0 rfl ?_
  refine j_iload_n dX16_init_15 3 rfl ?_
  obtain ⟨u4, hu4, hf⟩ := ob hf
  refine c_putiF (ci := 16) (k := 2) hu4 zcl_16 (Nat.le_of_ble_eq_true rfl) zf_X16_17 fk_642 rfl rfl rfl fits_I dX16_init_16 ?_
  replace hf := Option.some.inj hf
  subst hf
  exact j_return (bC_mv G A) ⟨Nat.le_refl 0, Nat.le_refl 0⟩ rfl dX16_init_19
theorem t10_init {G : CG} {A : Nat → Prop} {l : Launch} {r : Sg} (v0 : Option Nat) (u : Sg) (hf : f10_init G v0 u = some r) : JM kC (bC G A) A l yX10_init D10_init [pR v0] u none r 0 0 := by
  refine j_met (lv0 := [(0, pR v0)]) ⟨pl_X10, rfl, rfl, (Nat.le_of_ble_eq_true rfl), rfl⟩ ?_
  unfold f10_init at hf
  refine j_aload_n dX10_init_0 0 rfl ?_
  obtain ⟨b1, eb1, hg⟩ := ob hf
  clear hf
  subst eb1
  have hf := hg
  clear hg
  refine c_objInit q939 q177 q178 (Nat.le_of_ble_eq_true rfl) (Nat.le_of_ble_eq_true rfl) (Nat.le_of_ble_eq_true rfl) dX10_init_1 ?_
  replace hf := Option.some.inj hf
  subst hf
  exact j_return (bC_mv G A) ⟨Nat.le_refl 0, Nat.le_refl 0⟩ rfl dX10_init_4
theorem t11_init {G : CG} {A : Nat → Prop} {l : Launch} {r : Sg} (v0 : Option Nat) (v1 : Option Nat) (u : Sg) (hf : f11_init G v0 v1 u = some r) : JM kC (bC G A) A l yX11_init D11_init [pR v0, pR v1] u none r 0 0 := by
  refine j_met (lv0 := [(0, pR v0), (1, pR v1)]) ⟨pl_X11, rfl, rfl, (Nat.le_of_ble_eq_true rfl), rfl⟩ ?_
  unfold f11_init at hf
  refine j_aload_n dX11_init_0 0 rfl ?_
  obtain ⟨b1, eb1, hg⟩ := ob hf
  clear hf
  subst eb1
  have hf := hg
  clear hg
  obtain ⟨u2, hu2, hf⟩ := ob hf
  refine c_callIN [] [] _ (t10_init (some b1) u hu2) ⟨q936, q937, q153, q938, rfl, rfl⟩ dv10_init rfl ⟨(Nat.le_of_ble_eq_true rfl), (Nat.le_of_ble_eq_true rfl)⟩ rfl (Nat.le_of_ble_eq_true rfl) dX11_init_1 ⟨Nat.le_refl 0, Nat.le_refl 0⟩ ?_
  refine j_aload_n dX11_init_4 0 rfl ?_
  refine j_aload_n dX11_init_5 1 rfl ?_
  obtain ⟨u3, hu3, hf⟩ := ob hf
  refine c_putaF (ci := 11) (k := 0) hu3 zcl_11 (Nat.le_of_ble_eq_true rfl) zf_X11_7 fk_440 rfl rfl rfl fits_O dX11_init_6 ?_
  replace hf := Option.some.inj hf
  subst hf
  exact j_return (bC_mv G A) ⟨Nat.le_refl 0, Nat.le_refl 0⟩ rfl dX11_init_9
theorem t7_deeper {G : CG} {A : Nat → Prop} {l : Launch} (hfl : l.stackTraces = false) {r : (Nat ⊕ (Unit)) × Sg} {c0 n0 : Nat} (v0 : Option Nat) (u : Sg) (hf : f7_deeper G v0 u = some (r, c0, n0)) : JMT G A l yX7_deeper D7_deeper [pR v0] u (omV r.1) r.2 c0 n0 := by
  refine t_met (lv0 := [(0, pR v0)]) ⟨pl_X7, rfl, rfl, (Nat.le_of_ble_eq_true rfl), rfl⟩ ?_
  have hcs : 0 + c0 ≤ c0 ∧ 0 + n0 ≤ n0 := ⟨by omega, by omega⟩
  unfold f7_deeper at hf
  refine j_aload_n dX7_deeper_0 0 rfl ?_
  obtain ⟨x1, hx1, hf⟩ := ob hf
  refine c_geti (ci := 7) (k := 7) hx1 zcl_7 (Nat.le_of_ble_eq_true rfl) zf_X7_125 fk_287 dX7_deeper_1 ?_
  refine j_bipush dX7_deeper_4 (by decide) ?_
  refine j_icmp_le (w32 x1) 15 rfl rfl 23 dX7_deeper_6 (by decide) (fun h11 => ?_) (fun h11 => ?_)
  · replace hf := it h11 hf
    refine j_aload_n dX7_deeper_23 0 rfl ?_
    refine j_dup dX7_deeper_24 rfl ?_
    obtain ⟨x2, hx2, hf⟩ := ob hf
    refine c_geti (ci := 7) (k := 7) hx2 zcl_7 (Nat.le_of_ble_eq_true rfl) zf_X7_125 fk_287 dX7_deeper_25 ?_
    refine j_iconst dX7_deeper_28 ?_
    refine j_iadd dX7_deeper_29 ?_
    obtain ⟨u3, hu3, hf⟩ := ob hf
    refine c_puti (ci := 7) (k := 7) hu3 zcl_7 (Nat.le_of_ble_eq_true rfl) zf_X7_125 fk_287 rfl fits_I dX7_deeper_30 ?_
    refine j_aload_n dX7_deeper_33 0 rfl ?_
    obtain ⟨b4, hb4, hf⟩ := ob hf
    obtain ⟨eb4, tb4⟩ := ztg_s hb4
    obtain ⟨q5, kq5, mq5, k_q5, m_q5, hq5, hf, hkq5, hmq5⟩ := bdU_s hf
    obtain ⟨hczq5, hcs⟩ := hcs_step hcs hkq5 hmq5
    have hMq5 := t7_next (A := A) hfl (some b4) u3 hq5
    rcases zq5 : q5.1 with e6 | x7
    · rw [zq5] at hf hMq5
      replace hf := telL hf
      obtain ⟨ht, hr⟩ := xth_s hf
      rw [hr]
      exact x_callV [] [] _ hMq5 ⟨q647, q649, qs3, q146, q650⟩ dv7_next rfl ⟨(Nat.le_of_ble_eq_true rfl), (Nat.le_of_ble_eq_true rfl)⟩ (c_recv zcl_7 tb4) (by rw [← eb4]; rfl) (Nat.le_of_ble_eq_true rfl) dX7_deeper_34 hczq5 ht q930
    · rw [zq5] at hf hMq5
      replace hf := telR hf
      refine t_callV [] [] _ hMq5 ⟨q647, q649, qs3, q146, q650⟩ dv7_next rfl ⟨(Nat.le_of_ble_eq_true rfl), (Nat.le_of_ble_eq_true rfl)⟩ (c_recv zcl_7 tb4) (by rw [← eb4]; rfl) (Nat.le_of_ble_eq_true rfl) dX7_deeper_34 hczq5 ?_
      replace hf := retU hf
      subst hf
      exact t_ofret (j_return (bC_mv G A) (hcs_ret (x := ()) (r := ()) hcs) rfl dX7_deeper_37)
  · replace hf := ie h11 hf
    obtain ⟨q8, kq8, mq8, k_q8, m_q8, hq8, hf, hkq8, hmq8⟩ := bdU_s hf
    obtain ⟨hczq8, hcs⟩ := hcs_step hcs hkq8 hmq8
    refine c_new (ci := 8) hq8 zcl_8 zmk_8 q667 dX7_deeper_9 hczq8 ?_
    refine j_dup dX7_deeper_12 rfl ?_
    refine j_bipush dX7_deeper_13 (by decide) ?_
    refine j_aload_n dX7_deeper_15 0 rfl ?_
    obtain ⟨x9, hx9, hf⟩ := ob hf
    refine c_geti (ci := 7) (k := 2) hx9 zcl_7 (Nat.le_of_ble_eq_true rfl) zf_X7_43 fk_282 dX7_deeper_16 ?_
    obtain ⟨u10, hu10, hf⟩ := ob hf
    refine c_callI [pI 6, pI x9] [pR (some q8.1)] _ (t8_init hfl (some q8.1) 6 x9 q8.2 hu10) ⟨q706, q707, q150, q708, rfl, rfl⟩ dv8_init rfl ⟨(Nat.le_of_ble_eq_true rfl), (Nat.le_of_ble_eq_true rfl)⟩ rfl (Nat.le_of_ble_eq_true rfl) dX7_deeper_19 (hcs_ret (x := ()) (r := ()) hcs) ?_
    obtain ⟨ht, hr⟩ := xth_s hf
    rw [hr]
    exact t_athrow ht q930 (hcs_ret (x := ()) (r := ()) hcs) dX7_deeper_22
theorem t7_is {G : CG} {A : Nat → Prop} {l : Launch} {r : Int} (v0 : Option Nat) (v1 : Int) (u : Sg) (hf : f7_is G v0 v1 u = some r) : JM kC (bC G A) A l yX7_is D7_is [pR v0, pL v1] u (some (pI r)) u 0 0 := by
  refine j_met (lv0 := [(0, pR v0), (1, pL v1)]) ⟨pl_X7, rfl, rfl, (Nat.le_of_ble_eq_true rfl), rfl⟩ ?_
  unfold f7_is at hf
  refine j_aload_n dX7_is_0 0 rfl ?_
  obtain ⟨x1, hx1, hf⟩ := ob hf
  refine c_geti (ci := 7) (k := 1) hx1 zcl_7 (Nat.le_of_ble_eq_true rfl) zf_X7_46 fk_281 dX7_is_1 ?_
  refine j_iconst dX7_is_4 ?_
  refine j_icmp_ne (w32 x1) 4 rfl rfl 21 dX7_is_5 (by decide) (fun h4 => ?_) (fun h4 => ?_)
  · replace hf := ie h4 hf
    refine j_iconst dX7_is_21 ?_
    replace hf := Option.some.inj hf
    subst hf
    exact j_zreturn (x := 0) (bC_mv G A) ⟨Nat.le_refl 0, Nat.le_refl 0⟩ (ty := .boolean) rfl (nar_z (Or.inl rfl)) dX7_is_22
  · replace hf := it h4 hf
    refine j_aload_n dX7_is_8 0 rfl ?_
    obtain ⟨x2, hx2, hf⟩ := ob hf
    refine c_getl (ci := 7) (k := 3) hx2 zcl_7 (Nat.le_of_ble_eq_true rfl) zf_X7_53 fk_283 dX7_is_9 ?_
    refine j_lload_n dX7_is_12 1 rfl ?_
    refine j_lc_ne 21 dX7_is_13 dX7_is_14 (by decide) (fun h3 => ?_) (fun h3 => ?_)
    · replace hf := ie h3 hf
      refine j_iconst dX7_is_21 ?_
      replace hf := Option.some.inj hf
      subst hf
      exact j_zreturn (x := 0) (bC_mv G A) ⟨Nat.le_refl 0, Nat.le_refl 0⟩ (ty := .boolean) rfl (nar_z (Or.inl rfl)) dX7_is_22
    · replace hf := it h3 hf
      refine j_iconst dX7_is_17 ?_
      refine j_goto 22 dX7_is_18 (by decide) ?_
      replace hf := Option.some.inj hf
      subst hf
      exact j_zreturn (x := 1) (bC_mv G A) ⟨Nat.le_refl 0, Nat.le_refl 0⟩ (ty := .boolean) rfl (nar_z (Or.inr rfl)) dX7_is_22
theorem t7_isSign {G : CG} {A : Nat → Prop} {l : Launch} {r : Int} (v0 : Option Nat) (v1 : Int) (u : Sg) (hf : f7_isSign G v0 v1 u = some r) : JM kC (bC G A) A l yX7_isSign D7_isSign [pR v0, pI v1] u (some (pI r)) u 0 0 := by
  refine j_met (lv0 := [(0, pR v0), (1, pI v1)]) ⟨pl_X7, rfl, rfl, (Nat.le_of_ble_eq_true rfl), rfl⟩ ?_
  unfold f7_isSign at hf
  refine j_aload_n dX7_isSign_0 0 rfl ?_
  obtain ⟨x1, hx1, hf⟩ := ob hf
  refine c_geti (ci := 7) (k := 1) hx1 zcl_7 (Nat.le_of_ble_eq_true rfl) zf_X7_46 fk_281 dX7_isSign_1 ?_
  refine j_iconst dX7_isSign_4 ?_
  refine j_icmp_ne (w32 x1) 3 rfl rfl 20 dX7_isSign_5 (by decide) (fun h4 => ?_) (fun h4 => ?_)
  · replace hf := ie h4 hf
    refine j_iconst dX7_isSign_20 ?_
    replace hf := Option.some.inj hf
    subst hf
    exact j_zreturn (x := 0) (bC_mv G A) ⟨Nat.le_refl 0, Nat.le_refl 0⟩ (ty := .boolean) rfl (nar_z (Or.inl rfl)) dX7_isSign_21
  · replace hf := it h4 hf
    refine j_aload_n dX7_isSign_8 0 rfl ?_
    obtain ⟨x2, hx2, hf⟩ := ob hf
    refine c_geti (ci := 7) (k := 5) hx2 zcl_7 (Nat.le_of_ble_eq_true rfl) zf_X7_76 fk_285 dX7_isSign_9 ?_
    refine j_iload_n dX7_isSign_12 1 rfl ?_
    refine j_icmp_ne (w32 x2) (w32 v1) rfl rfl 20 dX7_isSign_13 (by decide) (fun h3 => ?_) (fun h3 => ?_)
    · replace hf := ie h3 hf
      refine j_iconst dX7_isSign_20 ?_
      replace hf := Option.some.inj hf
      subst hf
      exact j_zreturn (x := 0) (bC_mv G A) ⟨Nat.le_refl 0, Nat.le_refl 0⟩ (ty := .boolean) rfl (nar_z (Or.inl rfl)) dX7_isSign_21
    · replace hf := it h3 hf
      refine j_iconst dX7_isSign_16 ?_
      refine j_goto 21 dX7_isSign_17 (by decide) ?_
      replace hf := Option.some.inj hf
      subst hf
      exact j_zreturn (x := 1) (bC_mv G A) ⟨Nat.le_refl 0, Nat.le_refl 0⟩ (ty := .boolean) rfl (nar_z (Or.inr rfl)) dX7_isSign_21
theorem t9_choice_l2 {G : CG} {A : Nat → Prop} {l : Launch} {a : List PV} {r : Int} {Kf : (Int) ⊕ (Unit) → Option (Int)} (v0 : Option Nat) (v1 : Int) (u : Sg) (hK0 : ∀ q : Int, Kf (.inl q) = some r → JW kC (bC G A) A l D9_choice a (jQ (bC G A) A a (some (pI r)) u 0 0) 0 0 u 0 0 21 [(3, pI q)] []) (hK1 : ∀ q : Unit, Kf (.inr q) = some r → JW kC (bC G A) A l D9_choice a (jQ (bC G A) A a (some (pI r)) u 0 0) 0 0 u 0 0 29 [] []) : ∀ (n : Nat) (v3 : Int), ((f9_choice_l2 G v0 v1 u n v3).bind Kf = some r) → JW kC (bC G A) A l D9_choice a (jQ (bC G A) A a (some (pI r)) u 0 0) 0 0 u 0 0 2 [(0, pR v0), (1, pL v1), (3, pI v3)] [] := by
  intro n
  induction n with
  | zero => intro v3 hf; exact onb hf
  | succ n ih =>
    intro v3 hf
    unfold f9_choice_l2 at hf
    refine j_iload_n dX9_choice_2 2 rfl ?_
    refine j_aload_n dX9_choice_3 0 rfl ?_
    obtain ⟨x1, hx1, hf⟩ := obb hf
    refine c_geti (ci := 9) (k := 3) hx1 zcl_9 (Nat.le_of_ble_eq_true rfl) zf_X9_26 fk_363 dX9_choice_4 ?_
    refine j_icmp_ge (w32 v3) (w32 x1) rfl rfl 29 dX9_choice_7 (by decide) (fun h5 => ?_) (fun h5 => ?_)
    · replace hf := itb h5 hf
      exact j_sub [] _ rfl (hK1 () hf)
    · replace hf := ieb h5 hf
      refine j_aload_n dX9_choice_10 0 rfl ?_
      obtain ⟨x2, hx2, hf⟩ := obb hf
      refine c_geta (ci := 9) (k := 2) hx2 zcl_9 (Nat.le_of_ble_eq_true rfl) zf_X9_9 fk_362 dX9_choice_11 ?_
      refine j_iload_n dX9_choice_14 2 rfl ?_
      obtain ⟨x3, hx3, hf⟩ := obb hf
      refine c_lald hx3 dX9_choice_15 ?_
      refine j_lload_n dX9_choice_16 1 rfl ?_
      refine j_lc_ne 23 dX9_choice_17 dX9_choice_18 (by decide) (fun h4 => ?_) (fun h4 => ?_)
      · replace hf := ieb h4 hf
        refine j_iinc dX9_choice_23 2 rfl [(3, pI (v3 + 1)), (0, pR v0), (1, pL v1)] (Nat.le_of_ble_eq_true rfl) rfl ?_
        refine j_goto 2 dX9_choice_26 (by decide) ?_
        exact j_sub [1, 2, 0] _ rfl (ih (v3 + 1) hf)
      · replace hf := itb h4 hf
        exact j_sub [2] _ rfl (hK0 v3 hf)
theorem t9_choice {G : CG} {A : Nat → Prop} {l : Launch} {r : Int} (v0 : Option Nat) (v1 : Int) (u : Sg) (hf : f9_choice G v0 v1 u = some r) : JM kC (bC G A) A l yX9_choice D9_choice [pR v0, pL v1] u (some (pI r)) u 0 0 := by
  refine j_met (lv0 := [(0, pR v0), (1, pL v1)]) ⟨pl_X9, rfl, rfl, (Nat.le_of_ble_eq_true rfl), rfl⟩ ?_
  unfold f9_choice at hf
  refine j_iconst dX9_choice_0 ?_
  refine j_istore_n dX9_choice_1 [(3, pI 0), (0, pR v0), (1, pL v1)] (Nat.le_of_ble_eq_true rfl) rfl ?_
  refine j_sub [1, 2, 0] _ rfl (t9_choice_l2 v0 v1 u ?_ ?_ NN 0 hf)
  · intro q1 hf
    simp only [Sum.elim_inl, Sum.elim_inr] at hf
    refine j_iload_n dX9_choice_21 0 rfl ?_
    replace hf := Option.some.inj hf
    subst hf
    exact j_ireturn (bC_mv G A) ⟨Nat.le_refl 0, Nat.le_refl 0⟩ rfl dX9_choice_22
  · intro q2 hf
    simp only [Sum.elim_inl, Sum.elim_inr] at hf
    refine j_iconst dX9_choice_29 ?_
    replace hf := Option.some.inj hf
    subst hf
    exact j_ireturn (bC_mv G A) ⟨Nat.le_refl 0, Nat.le_refl 0⟩ rfl dX9_choice_30
theorem t13_init {G : CG} {A : Nat → Prop} {l : Launch} {r : Sg} (v0 : Option Nat) (v1 : Int) (v2 : Int) (v3 : Int) (u : Sg) (hf : f13_init G v0 v1 v2 v3 u = some r) : JM kC (bC G A) A l yX13_init D13_init [pR v0, pI v1, pI v2, pI v3] u none r 0 0 := by
  refine j_met (lv0 := [(0, pR v0), (1, pI v1), (2, pI v2), (3, pI v3)]) ⟨pl_X13, rfl, rfl, (Nat.le_of_ble_eq_true rfl), rfl⟩ ?_
  unfold f13_init at hf
  refine j_aload_n dX13_init_0 0 rfl ?_
  obtain ⟨b1, eb1, hg⟩ := ob hf
  clear hf
  subst eb1
  have hf := hg
  clear hg
  obtain ⟨u2, hu2, hf⟩ := ob hf
  refine c_callIN [] [] _ (t10_init (some b1) u hu2) ⟨q965, q937, q153, q938, rfl, rfl⟩ dv10_init rfl ⟨(Nat.le_of_ble_eq_true rfl), (Nat.le_of_ble_eq_true rfl)⟩ rfl (Nat.le_of_ble_eq_true rfl) dX13_init_1 ⟨Nat.le_refl 0, Nat.le_refl 0⟩ ?_
  refine j_aload_n dX13_init_4 0 rfl ?_
  refine j_iload_n dX13_init_5 1 rfl ?_
  obtain ⟨u3, hu3, hf⟩ := ob hf
  refine c_putiF (ci := 13) (k := 0) hu3 zcl_13 (Nat.le_of_ble_eq_true rfl) zf_X13_7 fk_520 rfl rfl rfl fits_I dX13_init_6 ?_
  refine j_aload_n dX13_init_9 0 rfl ?_
  refine j_iload_n dX13_init_10 2 rfl ?_
  obtain ⟨u4, hu4, hf⟩ := ob hf
  refine c_putiF (ci := 13) (k := 1) hu4 zcl_13 (Nat.le_of_ble_eq_true rfl) zf_X13_13 fk_521 rfl rfl rfl fits_I dX13_init_11 ?_
  refine j_aload_n dX13_init_14 0 rfl ?_
  refine j_iload_n dX13_init_15 3 rfl ?_
  rcases Decidable.em (w32 v3 = 0 ∨ w32 v3 = 1) with h6 | h6
  · replace hf := it h6 hf
    obtain ⟨u5, hu5, hf⟩ := ob hf
    refine c_putiF (ci := 13) (k := 2) hu5 zcl_13 (Nat.le_of_ble_eq_true rfl) zf_X13_16 fk_522 rfl rfl rfl (fits_Z h6) dX13_init_16 ?_
    replace hf := Option.some.inj hf
    subst hf
    exact j_return (bC_mv G A) ⟨Nat.le_refl 0, Nat.le_refl 0⟩ rfl dX13_init_19
  · exact onn (ie h6 hf)
theorem t12_init {G : CG} {A : Nat → Prop} {l : Launch} {r : Sg} (v0 : Option Nat) (v1 : Int) (u : Sg) (hf : f12_init G v0 v1 u = some r) : JM kC (bC G A) A l yX12_init D12_init [pR v0, pI v1] u none r 0 0 := by
  refine j_met (lv0 := [(0, pR v0), (1, pI v1)]) ⟨pl_X12, rfl, rfl, (Nat.le_of_ble_eq_true rfl), rfl⟩ ?_
  unfold f12_init at hf
  refine j_aload_n dX12_init_0 0 rfl ?_
  obtain ⟨b1, eb1, hg⟩ := ob hf
  clear hf
  subst eb1
  have hf := hg
  clear hg
  obtain ⟨u2, hu2, hf⟩ := ob hf
  refine c_callIN [] [] _ (t10_init (some b1) u hu2) ⟨q953, q937, q153, q938, rfl, rfl⟩ dv10_init rfl ⟨(Nat.le_of_ble_eq_true rfl), (Nat.le_of_ble_eq_true rfl)⟩ rfl (Nat.le_of_ble_eq_true rfl) dX12_init_1 ⟨Nat.le_refl 0, Nat.le_refl 0⟩ ?_
  refine j_aload_n dX12_init_4 0 rfl ?_
  refine j_iload_n dX12_init_5 1 rfl ?_
  obtain ⟨u3, hu3, hf⟩ := ob hf
  refine c_putiF (ci := 12) (k := 0) hu3 zcl_12 (Nat.le_of_ble_eq_true rfl) zf_X12_7 fk_480 rfl rfl rfl fits_I dX12_init_6 ?_
  replace hf := Option.some.inj hf
  subst hf
  exact j_return (bC_mv G A) ⟨Nat.le_refl 0, Nat.le_refl 0⟩ rfl dX12_init_9
theorem t14_init {G : CG} {A : Nat → Prop} {l : Launch} {r : Sg} (v0 : Option Nat) (v1 : Int) (v2 : Option Nat) (v3 : Int) (u : Sg) (hf : f14_init G v0 v1 v2 v3 u = some r) : JM kC (bC G A) A l yX14_init D14_init [pR v0, pI v1, pR v2, pI v3] u none r 0 0 := by
  refine j_met (lv0 := [(0, pR v0), (1, pI v1), (2, pR v2), (3, pI v3)]) ⟨pl_X14, rfl, rfl, (Nat.le_of_ble_eq_true rfl), rfl⟩ ?_
  unfold f14_init at hf
  refine j_aload_n dX14_init_0 0 rfl ?_
  obtain ⟨b1, eb1, hg⟩ := ob hf
  clear hf
  subst eb1
  have hf := hg
  clear hg
  obtain ⟨u2, hu2, hf⟩ := ob hf
  refine c_callIN [] [] _ (t10_init (some b1) u hu2) ⟨q997, q937, q153, q938, rfl, rfl⟩ dv10_init rfl ⟨(Nat.le_of_ble_eq_true rfl), (Nat.le_of_ble_eq_true rfl)⟩ rfl (Nat.le_of_ble_eq_true rfl) dX14_init_1 ⟨Nat.le_refl 0, Nat.le_refl 0⟩ ?_
  refine j_aload_n dX14_init_4 0 rfl ?_
  refine j_iload_n dX14_init_5 1 rfl ?_
  obtain ⟨u3, hu3, hf⟩ := ob hf
  refine c_putiF (ci := 14) (k := 0) hu3 zcl_14 (Nat.le_of_ble_eq_true rfl) zf_X14_7 fk_560 rfl rfl rfl fits_I dX14_init_6 ?_
  refine j_aload_n dX14_init_9 0 rfl ?_
  refine j_aload_n dX14_init_10 2 rfl ?_
  obtain ⟨u4, hu4, hf⟩ := ob hf
  refine c_putaF (ci := 14) (k := 1) hu4 zcl_14 (Nat.le_of_ble_eq_true rfl) zf_X14_13 fk_561 rfl rfl rfl fits_O dX14_init_11 ?_
  refine j_aload_n dX14_init_14 0 rfl ?_
  refine j_iload_n dX14_init_15 3 rfl ?_
  obtain ⟨u5, hu5, hf⟩ := ob hf
  refine c_putiF (ci := 14) (k := 2) hu5 zcl_14 (Nat.le_of_ble_eq_true rfl) zf_X14_17 fk_562 rfl rfl rfl fits_I dX14_init_16 ?_
  replace hf := Option.some.inj hf
  subst hf
  exact j_return (bC_mv G A) ⟨Nat.le_refl 0, Nat.le_refl 0⟩ rfl dX14_init_19
theorem t7_node {G : CG} {A : Nat → Prop} {l : Launch} (hfl : l.stackTraces = false) {r : (Nat ⊕ (Unit)) × Sg} {c0 n0 : Nat} (v0 : Option Nat) (u : Sg) (hf : f7_node G v0 u = some (r, c0, n0)) : JMT G A l yX7_node D7_node [pR v0] u (omV r.1) r.2 c0 n0 := by
  refine t_met (lv0 := [(0, pR v0)]) ⟨pl_X7, rfl, rfl, (Nat.le_of_ble_eq_true rfl), rfl⟩ ?_
  have hcs : 0 + c0 ≤ c0 ∧ 0 + n0 ≤ n0 := ⟨by omega, by omega⟩
  unfold f7_node at hf
  refine j_aload_n dX7_node_0 0 rfl ?_
  refine j_dup dX7_node_1 rfl ?_
  obtain ⟨x1, hx1, hf⟩ := ob hf
  refine c_geti (ci := 7) (k := 8) hx1 zcl_7 (Nat.le_of_ble_eq_true rfl) zf_X7_84 fk_288 dX7_node_2 ?_
  refine j_iconst dX7_node_5 ?_
  refine j_iadd dX7_node_6 ?_
  refine j_dup_x1 dX7_node_7 rfl rfl ?_
  obtain ⟨u2, hu2, hf⟩ := ob hf
  refine c_puti (ci := 7) (k := 8) hu2 zcl_7 (Nat.le_of_ble_eq_true rfl) zf_X7_84 fk_288 rfl fits_I dX7_node_8 ?_
  refine j_aload_n dX7_node_11 0 rfl ?_
  obtain ⟨x3, hx3, hf⟩ := ob hf
  refine c_geti (ci := 7) (k := 9) hx3 zcl_7 (Nat.le_of_ble_eq_true rfl) zf_X7_19 fk_289 dX7_node_12 ?_
  refine j_icmp_le (w32 (x1 + 1)) (w32 x3) rfl rfl 32 dX7_node_15 (by decide) (fun h7 => ?_) (fun h7 => ?_)
  · replace hf := it h7 hf
    replace hf := retU hf
    subst hf
    exact t_ofret (j_return (bC_mv G A) (hcs_ret (x := ()) (r := ()) hcs) rfl dX7_node_32)
  · replace hf := ie h7 hf
    obtain ⟨q4, kq4, mq4, k_q4, m_q4, hq4, hf, hkq4, hmq4⟩ := bdU_s hf
    obtain ⟨hczq4, hcs⟩ := hcs_step hcs hkq4 hmq4
    refine c_new (ci := 8) hq4 zcl_8 zmk_8 q667 dX7_node_18 hczq4 ?_
    refine j_dup dX7_node_21 rfl ?_
    refine j_bipush dX7_node_22 (by decide) ?_
    refine j_aload_n dX7_node_24 0 rfl ?_
    obtain ⟨x5, hx5, hf⟩ := ob hf
    refine c_geti (ci := 7) (k := 2) hx5 zcl_7 (Nat.le_of_ble_eq_true rfl) zf_X7_43 fk_282 dX7_node_25 ?_
    obtain ⟨u6, hu6, hf⟩ := ob hf
    refine c_callI [pI 6, pI x5] [pR (some q4.1)] _ (t8_init hfl (some q4.1) 6 x5 q4.2 hu6) ⟨q706, q707, q150, q708, rfl, rfl⟩ dv8_init rfl ⟨(Nat.le_of_ble_eq_true rfl), (Nat.le_of_ble_eq_true rfl)⟩ rfl (Nat.le_of_ble_eq_true rfl) dX7_node_28 (hcs_ret (x := ()) (r := ()) hcs) ?_
    obtain ⟨ht, hr⟩ := xth_s hf
    rw [hr]
    exact t_athrow ht q926 (hcs_ret (x := ()) (r := ()) hcs) dX7_node_31
theorem t7_wantKind {G : CG} {A : Nat → Prop} {l : Launch} (hfl : l.stackTraces = false) {r : (Nat ⊕ (Unit)) × Sg} {c0 n0 : Nat} (v0 : Option Nat) (v1 : Int) (u : Sg) (hf : f7_wantKind G v0 v1 u = some (r, c0, n0)) : JMT G A l yX7_wantKind D7_wantKind [pR v0, pI v1] u (omV r.1) r.2 c0 n0 := by
  refine t_met (lv0 := [(0, pR v0), (1, pI v1)]) ⟨pl_X7, rfl, rfl, (Nat.le_of_ble_eq_true rfl), rfl⟩ ?_
  have hcs : 0 + c0 ≤ c0 ∧ 0 + n0 ≤ n0 := ⟨by omega, by omega⟩
  unfold f7_wantKind at hf
  refine j_aload_n dX7_wantKind_0 0 rfl ?_
  obtain ⟨x1, hx1, hf⟩ := ob hf
  refine c_geti (ci := 7) (k := 1) hx1 zcl_7 (Nat.le_of_ble_eq_true rfl) zf_X7_46 fk_281 dX7_wantKind_1 ?_
  refine j_iload_n dX7_wantKind_4 1 rfl ?_
  refine j_icmp_eq (w32 x1) (w32 v1) rfl rfl 21 dX7_wantKind_5 (by decide) (fun h5 => ?_) (fun h5 => ?_)
  · replace hf := it h5 hf
    replace hf := retU hf
    subst hf
    exact t_ofret (j_return (bC_mv G A) (hcs_ret (x := ()) (r := ()) hcs) rfl dX7_wantKind_21)
  · replace hf := ie h5 hf
    obtain ⟨q2, kq2, mq2, k_q2, m_q2, hq2, hf, hkq2, hmq2⟩ := bdU_s hf
    obtain ⟨hczq2, hcs⟩ := hcs_step hcs hkq2 hmq2
    refine c_new (ci := 8) hq2 zcl_8 zmk_8 q667 dX7_wantKind_8 hczq2 ?_
    refine j_dup dX7_wantKind_11 rfl ?_
    refine j_iconst dX7_wantKind_12 ?_
    refine j_aload_n dX7_wantKind_13 0 rfl ?_
    obtain ⟨x3, hx3, hf⟩ := ob hf
    refine c_geti (ci := 7) (k := 2) hx3 zcl_7 (Nat.le_of_ble_eq_true rfl) zf_X7_43 fk_282 dX7_wantKind_14 ?_
    obtain ⟨u4, hu4, hf⟩ := ob hf
    refine c_callI [pI 2, pI x3] [pR (some q2.1)] _ (t8_init hfl (some q2.1) 2 x3 q2.2 hu4) ⟨q706, q707, q150, q708, rfl, rfl⟩ dv8_init rfl ⟨(Nat.le_of_ble_eq_true rfl), (Nat.le_of_ble_eq_true rfl)⟩ rfl (Nat.le_of_ble_eq_true rfl) dX7_wantKind_17 (hcs_ret (x := ()) (r := ()) hcs) ?_
    obtain ⟨ht, hr⟩ := xth_s hf
    rw [hr]
    exact t_athrow ht q802 (hcs_ret (x := ()) (r := ()) hcs) dX7_wantKind_20
theorem t7_number_b21 {G : CG} {A : Nat → Prop} {l : Launch} {a : List PV} {mc ms ce sl : Nat} (hfl : l.stackTraces = false) {r : (Nat ⊕ (Int)) × Sg} {c0 n0 : Nat} (v0 : Option Nat) (u : Sg) (hcs : ce + c0 ≤ mc ∧ sl + n0 ≤ ms) (hf : f7_number_b21 G v0 u = some (r, c0, n0)) : JW kC (bC G A) A l D7_number a (tQQ yX7_number G A a (omI r.1) r.2 mc ms) mc ms u ce sl 21 [(0, pR v0)] [] := by
  unfold f7_number_b21 at hf
  obtain ⟨q1, kq1, mq1, k_q1, m_q1, hq1, hf, hkq1, hmq1⟩ := bdU_s hf
  obtain ⟨hczq1, hcs⟩ := hcs_step hcs hkq1 hmq1
  refine c_new (ci := 8) hq1 zcl_8 zmk_8 q667 dX7_number_21 hczq1 ?_
  refine j_dup dX7_number_24 rfl ?_
  refine j_iconst dX7_number_25 ?_
  refine j_aload_n dX7_number_26 0 rfl ?_
  obtain ⟨x2, hx2, hf⟩ := ob hf
  refine c_geti (ci := 7) (k := 2) hx2 zcl_7 (Nat.le_of_ble_eq_true rfl) zf_X7_43 fk_282 dX7_number_27 ?_
  obtain ⟨u3, hu3, hf⟩ := ob hf
  refine c_callI [pI 5, pI x2] [pR (some q1.1)] _ (t8_init hfl (some q1.1) 5 x2 q1.2 hu3) ⟨q706, q707, q150, q708, rfl, rfl⟩ dv8_init rfl ⟨(Nat.le_of_ble_eq_true rfl), (Nat.le_of_ble_eq_true rfl)⟩ rfl (Nat.le_of_ble_eq_true rfl) dX7_number_30 (hcs_ret (x := ()) (r := ()) hcs) ?_
  obtain ⟨ht, hr⟩ := xth_s hf
  rw [hr]
  exact t_athrow ht q897 (hcs_ret (x := ()) (r := ()) hcs) dX7_number_33
theorem t7_number {G : CG} {A : Nat → Prop} {l : Launch} (hfl : l.stackTraces = false) {r : (Nat ⊕ (Int)) × Sg} {c0 n0 : Nat} (v0 : Option Nat) (v1 : Int) (v2 : Int) (u : Sg) (hf : f7_number G v0 v1 v2 u = some (r, c0, n0)) : JMT G A l yX7_number D7_number [pR v0, pI v1, pI v2] u (omI r.1) r.2 c0 n0 := by
  refine t_met (lv0 := [(0, pR v0), (1, pI v1), (2, pI v2)]) ⟨pl_X7, rfl, rfl, (Nat.le_of_ble_eq_true rfl), rfl⟩ ?_
  have hcs : 0 + c0 ≤ c0 ∧ 0 + n0 ≤ n0 := ⟨by omega, by omega⟩
  unfold f7_number at hf
  refine j_aload_n dX7_number_0 0 rfl ?_
  refine j_iconst dX7_number_1 ?_
  obtain ⟨b1, hb1, hf⟩ := ob hf
  obtain ⟨eb1, tb1⟩ := ztg_s hb1
  obtain ⟨q2, kq2, mq2, k_q2, m_q2, hq2, hf, hkq2, hmq2⟩ := bdU_s hf
  obtain ⟨hczq2, hcs⟩ := hcs_step hcs hkq2 hmq2
  have hMq2 := t7_wantKind (A := A) hfl (some b1) 2 u hq2
  rcases zq2 : q2.1 with e3 | x4
  · rw [zq2] at hf hMq2
    replace hf := telL hf
    obtain ⟨ht, hr⟩ := xth_s hf
    rw [hr]
    exact x_callV [pI 2] [] _ hMq2 ⟨q799, q801, qs15, q146, q802⟩ dv7_wantKind rfl ⟨(Nat.le_of_ble_eq_true rfl), (Nat.le_of_ble_eq_true rfl)⟩ (c_recv zcl_7 tb1) (by rw [← eb1]; rfl) (Nat.le_of_ble_eq_true rfl) dX7_number_2 hczq2 ht q897
  · rw [zq2] at hf hMq2
    replace hf := telR hf
    refine t_callV [pI 2] [] _ hMq2 ⟨q799, q801, qs15, q146, q802⟩ dv7_wantKind rfl ⟨(Nat.le_of_ble_eq_true rfl), (Nat.le_of_ble_eq_true rfl)⟩ (c_recv zcl_7 tb1) (by rw [← eb1]; rfl) (Nat.le_of_ble_eq_true rfl) dX7_number_2 hczq2 ?_
    refine j_aload_n dX7_number_5 0 rfl ?_
    obtain ⟨x5, hx5, hf⟩ := ob hf
    refine c_geti (ci := 7) (k := 4) hx5 zcl_7 (Nat.le_of_ble_eq_true rfl) zf_X7_69 fk_284 dX7_number_6 ?_
    refine j_iload_n dX7_number_9 1 rfl ?_
    refine j_icmp_lt (w32 x5) (w32 v1) rfl rfl 21 dX7_number_10 (by decide) (fun h13 => ?_) (fun h13 => ?_)
    · replace hf := it h13 hf
      exact j_sub [0] _ rfl (t7_number_b21 hfl v0 q2.2 hcs hf)
    · replace hf := ie h13 hf
      refine j_aload_n dX7_number_13 0 rfl ?_
      obtain ⟨x6, hx6, hf⟩ := ob hf
      refine c_geti (ci := 7) (k := 4) hx6 zcl_7 (Nat.le_of_ble_eq_true rfl) zf_X7_69 fk_284 dX7_number_14 ?_
      refine j_iload_n dX7_number_17 2 rfl ?_
      refine j_icmp_le (w32 x6) (w32 v2) rfl rfl 34 dX7_number_18 (by decide) (fun h12 => ?_) (fun h12 => ?_)
      · replace hf := it h12 hf
        refine j_aload_n dX7_number_34 0 rfl ?_
        obtain ⟨x7, hx7, hf⟩ := ob hf
        refine c_geti (ci := 7) (k := 4) hx7 zcl_7 (Nat.le_of_ble_eq_true rfl) zf_X7_69 fk_284 dX7_number_35 ?_
        refine j_istore_n dX7_number_38 [(3, pI x7), (0, pR v0), (1, pI v1), (2, pI v2)] (Nat.le_of_ble_eq_true rfl) rfl ?_
        refine j_aload_n dX7_number_39 1 rfl ?_
        obtain ⟨b8, hb8, hf⟩ := ob hf
        obtain ⟨eb8, tb8⟩ := ztg_s hb8
        obtain ⟨q9, kq9, mq9, k_q9, m_q9, hq9, hf, hkq9, hmq9⟩ := bdU_s hf
        obtain ⟨hczq9, hcs⟩ := hcs_step hcs hkq9 hmq9
        have hMq9 := t7_next (A := A) hfl (some b8) q2.2 hq9
        rcases zq9 : q9.1 with e10 | x11
        · rw [zq9] at hf hMq9
          replace hf := telL hf
          obtain ⟨ht, hr⟩ := xth_s hf
          rw [hr]
          exact x_callV [] [] _ hMq9 ⟨q647, q649, qs3, q146, q650⟩ dv7_next rfl ⟨(Nat.le_of_ble_eq_true rfl), (Nat.le_of_ble_eq_true rfl)⟩ (c_recv zcl_7 tb8) (by rw [← eb8]; rfl) (Nat.le_of_ble_eq_true rfl) dX7_number_40 hczq9 ht q897
        · rw [zq9] at hf hMq9
          replace hf := telR hf
          refine t_callV [] [] _ hMq9 ⟨q647, q649, qs3, q146, q650⟩ dv7_next rfl ⟨(Nat.le_of_ble_eq_true rfl), (Nat.le_of_ble_eq_true rfl)⟩ (c_recv zcl_7 tb8) (by rw [← eb8]; rfl) (Nat.le_of_ble_eq_true rfl) dX7_number_40 hczq9 ?_
          refine j_iload_n dX7_number_43 0 rfl ?_
          replace hf := retU hf
          subst hf
          exact t_ofret (j_ireturn (bC_mv G A) (hcs_ret (x := ()) (r := ()) hcs) rfl dX7_number_44)
      · replace hf := ie h12 hf
        exact j_sub [0] _ rfl (t7_number_b21 hfl v0 q2.2 hcs hf)
theorem t7_signAtHand {G : CG} {A : Nat → Prop} {l : Launch} {r : Option Nat} (v0 : Option Nat) (u : Sg) (hf : f7_signAtHand G v0 u = some r) : JM kC (bC G A) A l yX7_signAtHand D7_signAtHand [pR v0] u (some (pR r)) u 0 0 := by
  refine j_met (lv0 := [(0, pR v0)]) ⟨pl_X7, rfl, rfl, (Nat.le_of_ble_eq_true rfl), rfl⟩ ?_
  unfold f7_signAtHand at hf
  refine j_aload_n dX7_signAtHand_0 0 rfl ?_
  obtain ⟨x1, hx1, hf⟩ := ob hf
  refine c_geti (ci := 7) (k := 1) hx1 zcl_7 (Nat.le_of_ble_eq_true rfl) zf_X7_46 fk_281 dX7_signAtHand_1 ?_
  refine j_iconst dX7_signAtHand_4 ?_
  refine j_icmp_eq (w32 x1) 3 rfl rfl 10 dX7_signAtHand_5 (by decide) (fun h14 => ?_) (fun h14 => ?_)
  · replace hf := it h14 hf
    refine j_aload_n dX7_signAtHand_10 0 rfl ?_
    obtain ⟨x2, hx2, hf⟩ := ob hf
    refine c_geti (ci := 7) (k := 5) hx2 zcl_7 (Nat.le_of_ble_eq_true rfl) zf_X7_76 fk_285 dX7_signAtHand_11 ?_
    refine j_bipush dX7_signAtHand_14 (by decide) ?_
    refine j_icmp_ne (w32 x2) 61 rfl rfl 23 dX7_signAtHand_16 (by decide) (fun h13 => ?_) (fun h13 => ?_)
    · replace hf := ie h13 hf
      refine j_aload_n dX7_signAtHand_23 0 rfl ?_
      obtain ⟨x3, hx3, hf⟩ := ob hf
      refine c_geti (ci := 7) (k := 5) hx3 zcl_7 (Nat.le_of_ble_eq_true rfl) zf_X7_76 fk_285 dX7_signAtHand_24 ?_
      refine j_bipush dX7_signAtHand_27 (by decide) ?_
      refine j_icmp_ne (w32 x3) 60 rfl rfl 36 dX7_signAtHand_29 (by decide) (fun h12 => ?_) (fun h12 => ?_)
      · replace hf := ie h12 hf
        refine j_aload_n dX7_signAtHand_36 0 rfl ?_
        obtain ⟨x4, hx4, hf⟩ := ob hf
        refine c_geti (ci := 7) (k := 5) hx4 zcl_7 (Nat.le_of_ble_eq_true rfl) zf_X7_76 fk_285 dX7_signAtHand_37 ?_
        refine j_bipush dX7_signAtHand_40 (by decide) ?_
        refine j_icmp_ne (w32 x4) 62 rfl rfl 49 dX7_signAtHand_42 (by decide) (fun h11 => ?_) (fun h11 => ?_)
        · replace hf := ie h11 hf
          refine j_aload_n dX7_signAtHand_49 0 rfl ?_
          obtain ⟨x5, hx5, hf⟩ := ob hf
          refine c_geti (ci := 7) (k := 5) hx5 zcl_7 (Nat.le_of_ble_eq_true rfl) zf_X7_76 fk_285 dX7_signAtHand_50 ?_
          refine j_sipush dX7_signAtHand_53 (by decide) ?_
          refine j_icmp_ne (w32 x5) 15421 rfl rfl 63 dX7_signAtHand_56 (by decide) (fun h10 => ?_) (fun h10 => ?_)
          · replace hf := ie h10 hf
            refine j_aload_n dX7_signAtHand_63 0 rfl ?_
            obtain ⟨x6, hx6, hf⟩ := ob hf
            refine c_geti (ci := 7) (k := 5) hx6 zcl_7 (Nat.le_of_ble_eq_true rfl) zf_X7_76 fk_285 dX7_signAtHand_64 ?_
            refine j_sipush dX7_signAtHand_67 (by decide) ?_
            refine j_icmp_ne (w32 x6) 15933 rfl rfl 77 dX7_signAtHand_70 (by decide) (fun h9 => ?_) (fun h9 => ?_)
            · replace hf := ie h9 hf
              refine j_aload_n dX7_signAtHand_77 0 rfl ?_
              obtain ⟨x7, hx7, hf⟩ := ob hf
              refine c_geti (ci := 7) (k := 5) hx7 zcl_7 (Nat.le_of_ble_eq_true rfl) zf_X7_76 fk_285 dX7_signAtHand_78 ?_
              refine j_sipush dX7_signAtHand_81 (by decide) ?_
              refine j_icmp_ne (w32 x7) 15422 rfl rfl 93 dX7_signAtHand_84 (by decide) (fun h8 => ?_) (fun h8 => ?_)
              · replace hf := ie h8 hf
                refine j_null dX7_signAtHand_93 ?_
                replace hf := Option.some.inj hf
                subst hf
                exact j_areturn (bC_mv G A) ⟨Nat.le_refl 0, Nat.le_refl 0⟩ rfl (Or.inl ⟨_, rfl⟩) dX7_signAtHand_94
              · replace hf := it h8 hf
                refine c_gets 5 rfl q990 dX7_signAtHand_87 ?_
                refine j_goto 94 dX7_signAtHand_90 (by decide) ?_
                replace hf := Option.some.inj hf
                subst hf
                exact j_areturn (bC_mv G A) ⟨Nat.le_refl 0, Nat.le_refl 0⟩ rfl (Or.inl ⟨_, rfl⟩) dX7_signAtHand_94
            · replace hf := it h9 hf
              refine c_gets 4 rfl q988 dX7_signAtHand_73 ?_
              replace hf := Option.some.inj hf
              subst hf
              exact j_areturn (bC_mv G A) ⟨Nat.le_refl 0, Nat.le_refl 0⟩ rfl (Or.inl ⟨_, rfl⟩) dX7_signAtHand_76
          · replace hf := it h10 hf
            refine c_gets 3 rfl q986 dX7_signAtHand_59 ?_
            replace hf := Option.some.inj hf
            subst hf
            exact j_areturn (bC_mv G A) ⟨Nat.le_refl 0, Nat.le_refl 0⟩ rfl (Or.inl ⟨_, rfl⟩) dX7_signAtHand_62
        · replace hf := it h11 hf
          refine c_gets 2 rfl q984 dX7_signAtHand_45 ?_
          replace hf := Option.some.inj hf
          subst hf
          exact j_areturn (bC_mv G A) ⟨Nat.le_refl 0, Nat.le_refl 0⟩ rfl (Or.inl ⟨_, rfl⟩) dX7_signAtHand_48
      · replace hf := it h12 hf
        refine c_gets 1 rfl q982 dX7_signAtHand_32 ?_
        replace hf := Option.some.inj hf
        subst hf
        exact j_areturn (bC_mv G A) ⟨Nat.le_refl 0, Nat.le_refl 0⟩ rfl (Or.inl ⟨_, rfl⟩) dX7_signAtHand_35
    · replace hf := it h13 hf
      refine c_gets 0 rfl q980 dX7_signAtHand_19 ?_
      replace hf := Option.some.inj hf
      subst hf
      exact j_areturn (bC_mv G A) ⟨Nat.le_refl 0, Nat.le_refl 0⟩ rfl (Or.inl ⟨_, rfl⟩) dX7_signAtHand_22
  · replace hf := ie h14 hf
    refine j_null dX7_signAtHand_8 ?_
    replace hf := Option.some.inj hf
    subst hf
    exact j_areturn (bC_mv G A) ⟨Nat.le_refl 0, Nat.le_refl 0⟩ rfl (Or.inl ⟨_, rfl⟩) dX7_signAtHand_9
theorem t6_fact_l2 {G : CG} {A : Nat → Prop} {l : Launch} {a : List PV} {r : Int} {Kf : (Int) ⊕ (Unit) → Option (Int)} (v0 : Option Nat) (v1 : Int) (u : Sg) (hK0 : ∀ q : Int, Kf (.inl q) = some r → JW kC (bC G A) A l D6_fact a (jQ (bC G A) A a (some (pI r)) u 0 0) 0 0 u 0 0 36 [(3, pI q)] []) (hK1 : ∀ q : Unit, Kf (.inr q) = some r → JW kC (bC G A) A l D6_fact a (jQ (bC G A) A a (some (pI r)) u 0 0) 0 0 u 0 0 44 [] []) : ∀ (n : Nat) (v3 : Int), ((f6_fact_l2 G v0 v1 u n v3).bind Kf = some r) → JW kC (bC G A) A l D6_fact a (jQ (bC G A) A a (some (pI r)) u 0 0) 0 0 u 0 0 2 [(0, pR v0), (1, pL v1), (3, pI v3)] [] := by
  intro n
  induction n with
  | zero => intro v3 hf; exact onb hf
  | succ n ih =>
    intro v3 hf
    unfold f6_fact_l2 at hf
    refine j_iload_n dX6_fact_2 2 rfl ?_
    refine j_aload_n dX6_fact_3 0 rfl ?_
    obtain ⟨x1, hx1, hf⟩ := obb hf
    refine c_geta (ci := 6) (k := 0) hx1 zcl_6 (Nat.le_of_ble_eq_true rfl) zf_X6_12 fk_240 dX6_fact_4 ?_
    obtain ⟨b2, hb2, hf⟩ := obb hf
    obtain ⟨eb2, tb2⟩ := ztg_s hb2
    obtain ⟨x3, hx3, hf⟩ := obb hf
    refine a_Fr (x := ix_0) [] [pI v3] (tJ2_size (some b2) u hx3) ⟨q808, q559, q561, q131, q563⟩ iF_0 df_0 rfl ⟨(Nat.le_of_ble_eq_true rfl), (Nat.le_of_ble_eq_true rfl)⟩ zcl_5 rfl tb2 (by rw [← eb2]; rfl) (Nat.le_of_ble_eq_true rfl) dX6_fact_7 ⟨Nat.le_refl 0, Nat.le_refl 0⟩ ?_
    refine j_icmp_ge (w32 v3) (w32 x3) rfl rfl 44 dX6_fact_12 (by decide) (fun h10 => ?_) (fun h10 => ?_)
    · replace hf := itb h10 hf
      exact j_sub [] _ rfl (hK1 () hf)
    · replace hf := ieb h10 hf
      refine j_aload_n dX6_fact_15 0 rfl ?_
      obtain ⟨x4, hx4, hf⟩ := obb hf
      refine c_geta (ci := 6) (k := 0) hx4 zcl_6 (Nat.le_of_ble_eq_true rfl) zf_X6_12 fk_240 dX6_fact_16 ?_
      refine j_iload_n dX6_fact_19 2 rfl ?_
      obtain ⟨b5, hb5, hf⟩ := obb hf
      obtain ⟨eb5, tb5⟩ := ztg_s hb5
      obtain ⟨x6, hx6, hf⟩ := obb hf
      refine a_Fr (x := ix_1) [pI v3] [] (tJ2_get (some b5) v3 u hx6) ⟨q810, q813, q815, q131, q817⟩ iF_1 df_1 rfl ⟨(Nat.le_of_ble_eq_true rfl), (Nat.le_of_ble_eq_true rfl)⟩ zcl_5 rfl tb5 (by rw [← eb5]; rfl) (Nat.le_of_ble_eq_true rfl) dX6_fact_20 ⟨Nat.le_refl 0, Nat.le_refl 0⟩ ?_
      obtain ⟨y7, hy7, hf⟩ := obb hf
      refine c_cast hy7 zok_Fact q828 dX6_fact_25 ?_
      obtain ⟨x8, hx8, hf⟩ := obb hf
      refine c_getlN (ci := 9) (k := 0) hx8 zcl_9 (Nat.le_of_ble_eq_true rfl) zf_X6_56 fk_360 dX6_fact_28 ?_
      refine j_lload_n dX6_fact_31 1 rfl ?_
      refine j_lc_ne 38 dX6_fact_32 dX6_fact_33 (by decide) (fun h9 => ?_) (fun h9 => ?_)
      · replace hf := ieb h9 hf
        refine j_iinc dX6_fact_38 2 rfl [(3, pI (v3 + 1)), (0, pR v0), (1, pL v1)] (Nat.le_of_ble_eq_true rfl) rfl ?_
        refine j_goto 2 dX6_fact_41 (by decide) ?_
        exact j_sub [1, 2, 0] _ rfl (ih (v3 + 1) hf)
      · replace hf := itb h9 hf
        exact j_sub [2] _ rfl (hK0 v3 hf)
theorem t6_fact {G : CG} {A : Nat → Prop} {l : Launch} {r : Int} (v0 : Option Nat) (v1 : Int) (u : Sg) (hf : f6_fact G v0 v1 u = some r) : JM kC (bC G A) A l yX6_fact D6_fact [pR v0, pL v1] u (some (pI r)) u 0 0 := by
  refine j_met (lv0 := [(0, pR v0), (1, pL v1)]) ⟨pl_X6, rfl, rfl, (Nat.le_of_ble_eq_true rfl), rfl⟩ ?_
  unfold f6_fact at hf
  refine j_iconst dX6_fact_0 ?_
  refine j_istore_n dX6_fact_1 [(3, pI 0), (0, pR v0), (1, pL v1)] (Nat.le_of_ble_eq_true rfl) rfl ?_
  refine j_sub [1, 2, 0] _ rfl (t6_fact_l2 v0 v1 u ?_ ?_ NN 0 hf)
  · intro q1 hf
    simp only [Sum.elim_inl, Sum.elim_inr] at hf
    refine j_iload_n dX6_fact_36 0 rfl ?_
    replace hf := Option.some.inj hf
    subst hf
    exact j_ireturn (bC_mv G A) ⟨Nat.le_refl 0, Nat.le_refl 0⟩ rfl dX6_fact_37
  · intro q2 hf
    simp only [Sum.elim_inl, Sum.elim_inr] at hf
    refine j_iconst dX6_fact_44 ?_
    replace hf := Option.some.inj hf
    subst hf
    exact j_ireturn (bC_mv G A) ⟨Nat.le_refl 0, Nat.le_refl 0⟩ rfl dX6_fact_45
theorem t6_meaning_l2 {G : CG} {A : Nat → Prop} {l : Launch} {a : List PV} {r : Int} {Kf : (Int) ⊕ (Unit) → Option (Int)} (v0 : Option Nat) (v1 : Int) (u : Sg) (hK0 : ∀ q : Int, Kf (.inl q) = some r → JW kC (bC G A) A l D6_meaning a (jQ (bC G A) A a (some (pI r)) u 0 0) 0 0 u 0 0 36 [(3, pI q)] []) (hK1 : ∀ q : Unit, Kf (.inr q) = some r → JW kC (bC G A) A l D6_meaning a (jQ (bC G A) A a (some (pI r)) u 0 0) 0 0 u 0 0 44 [] []) : ∀ (n : Nat) (v3 : Int), ((f6_meaning_l2 G v0 v1 u n v3).bind Kf = some r) → JW kC (bC G A) A l D6_meaning a (jQ (bC G A) A a (some (pI r)) u 0 0) 0 0 u 0 0 2 [(0, pR v0), (1, pL v1), (3, pI v3)] [] := by
  intro n
  induction n with
  | zero => intro v3 hf; exact onb hf
  | succ n ih =>
    intro v3 hf
    unfold f6_meaning_l2 at hf
    refine j_iload_n dX6_meaning_2 2 rfl ?_
    refine j_aload_n dX6_meaning_3 0 rfl ?_
    obtain ⟨x1, hx1, hf⟩ := obb hf
    refine c_geta (ci := 6) (k := 1) hx1 zcl_6 (Nat.le_of_ble_eq_true rfl) zf_X6_18 fk_241 dX6_meaning_4 ?_
    obtain ⟨b2, hb2, hf⟩ := obb hf
    obtain ⟨eb2, tb2⟩ := ztg_s hb2
    obtain ⟨x3, hx3, hf⟩ := obb hf
    refine a_Fr (x := ix_0) [] [pI v3] (tJ2_size (some b2) u hx3) ⟨q808, q559, q561, q131, q563⟩ iF_0 df_0 rfl ⟨(Nat.le_of_ble_eq_true rfl), (Nat.le_of_ble_eq_true rfl)⟩ zcl_5 rfl tb2 (by rw [← eb2]; rfl) (Nat.le_of_ble_eq_true rfl) dX6_meaning_7 ⟨Nat.le_refl 0, Nat.le_refl 0⟩ ?_
    refine j_icmp_ge (w32 v3) (w32 x3) rfl rfl 44 dX6_meaning_12 (by decide) (fun h11 => ?_) (fun h11 => ?_)
    · replace hf := itb h11 hf
      exact j_sub [] _ rfl (hK1 () hf)
    · replace hf := ieb h11 hf
      refine j_aload_n dX6_meaning_15 0 rfl ?_
      obtain ⟨x4, hx4, hf⟩ := obb hf
      refine c_geta (ci := 6) (k := 1) hx4 zcl_6 (Nat.le_of_ble_eq_true rfl) zf_X6_18 fk_241 dX6_meaning_16 ?_
      refine j_iload_n dX6_meaning_19 2 rfl ?_
      obtain ⟨b5, hb5, hf⟩ := obb hf
      obtain ⟨eb5, tb5⟩ := ztg_s hb5
      obtain ⟨x6, hx6, hf⟩ := obb hf
      refine a_Fr (x := ix_1) [pI v3] [] (tJ2_get (some b5) v3 u hx6) ⟨q810, q813, q815, q131, q817⟩ iF_1 df_1 rfl ⟨(Nat.le_of_ble_eq_true rfl), (Nat.le_of_ble_eq_true rfl)⟩ zcl_5 rfl tb5 (by rw [← eb5]; rfl) (Nat.le_of_ble_eq_true rfl) dX6_meaning_20 ⟨Nat.le_refl 0, Nat.le_refl 0⟩ ?_
      obtain ⟨y7, hy7, hf⟩ := obb hf
      refine c_cast hy7 zok_Long q833 dX6_meaning_25 ?_
      obtain ⟨b8, hb8, hf⟩ := obb hf
      obtain ⟨eb8, tb8⟩ := ztg_s hb8
      obtain ⟨x9, hx9, hf⟩ := obb hf
      refine a_Vr [] [] (tJ15_longValue (some b8) u hx9) ⟨q834, q835, q836, q162, q837⟩ dvJ15_longValue rfl ⟨(Nat.le_of_ble_eq_true rfl), (Nat.le_of_ble_eq_true rfl)⟩ (c_recv zcl_28 tb8) (by rw [← eb8]; rfl) (Nat.le_of_ble_eq_true rfl) dX6_meaning_28 ⟨Nat.le_refl 0, Nat.le_refl 0⟩ ?_
      refine j_lload_n dX6_meaning_31 1 rfl ?_
      refine j_lc_ne 38 dX6_meaning_32 dX6_meaning_33 (by decide) (fun h10 => ?_) (fun h10 => ?_)
      · replace hf := ieb h10 hf
        refine j_iinc dX6_meaning_38 2 rfl [(3, pI (v3 + 1)), (0, pR v0), (1, pL v1)] (Nat.le_of_ble_eq_true rfl) rfl ?_
        refine j_goto 2 dX6_meaning_41 (by decide) ?_
        exact j_sub [1, 2, 0] _ rfl (ih (v3 + 1) hf)
      · replace hf := itb h10 hf
        exact j_sub [2] _ rfl (hK0 v3 hf)
theorem t6_meaning {G : CG} {A : Nat → Prop} {l : Launch} {r : Int} (v0 : Option Nat) (v1 : Int) (u : Sg) (hf : f6_meaning G v0 v1 u = some r) : JM kC (bC G A) A l yX6_meaning D6_meaning [pR v0, pL v1] u (some (pI r)) u 0 0 := by
  refine j_met (lv0 := [(0, pR v0), (1, pL v1)]) ⟨pl_X6, rfl, rfl, (Nat.le_of_ble_eq_true rfl), rfl⟩ ?_
  unfold f6_meaning at hf
  refine j_iconst dX6_meaning_0 ?_
  refine j_istore_n dX6_meaning_1 [(3, pI 0), (0, pR v0), (1, pL v1)] (Nat.le_of_ble_eq_true rfl) rfl ?_
  refine j_sub [1, 2, 0] _ rfl (t6_meaning_l2 v0 v1 u ?_ ?_ NN 0 hf)
  · intro q1 hf
    simp only [Sum.elim_inl, Sum.elim_inr] at hf
    refine j_iload_n dX6_meaning_36 0 rfl ?_
    replace hf := Option.some.inj hf
    subst hf
    exact j_ireturn (bC_mv G A) ⟨Nat.le_refl 0, Nat.le_refl 0⟩ rfl dX6_meaning_37
  · intro q2 hf
    simp only [Sum.elim_inl, Sum.elim_inr] at hf
    refine j_iconst dX6_meaning_44 ?_
    replace hf := Option.some.inj hf
    subst hf
    exact j_ireturn (bC_mv G A) ⟨Nat.le_refl 0, Nat.le_refl 0⟩ rfl dX6_meaning_45
theorem t7_named_b136 {G : CG} {A : Nat → Prop} {l : Launch} {a : List PV} {mc ms ce sl : Nat} (hfl : l.stackTraces = false) {r : (Nat ⊕ (Option Nat)) × Sg} {c0 n0 : Nat} (v0 : Option Nat) (u : Sg) (hcs : ce + c0 ≤ mc ∧ sl + n0 ≤ ms) (hf : f7_named_b136 G v0 u = some (r, c0, n0)) : JW kC (bC G A) A l D7_named a (tQQ yX7_named G A a (omR r.1) r.2 mc ms) mc ms u ce sl 136 [(0, pR v0)] [] := by
  unfold f7_named_b136 at hf
  obtain ⟨q1, kq1, mq1, k_q1, m_q1, hq1, hf, hkq1, hmq1⟩ := bdU_s hf
  obtain ⟨hczq1, hcs⟩ := hcs_step hcs hkq1 hmq1
  refine c_new (ci := 8) hq1 zcl_8 zmk_8 q667 dX7_named_136 hczq1 ?_
  refine j_dup dX7_named_139 rfl ?_
  refine j_iconst dX7_named_140 ?_
  refine j_aload_n dX7_named_141 0 rfl ?_
  obtain ⟨x2, hx2, hf⟩ := ob hf
  refine c_geti (ci := 7) (k := 2) hx2 zcl_7 (Nat.le_of_ble_eq_true rfl) zf_X7_43 fk_282 dX7_named_142 ?_
  obtain ⟨u3, hu3, hf⟩ := ob hf
  refine c_callI [pI 2, pI x2] [pR (some q1.1)] _ (t8_init hfl (some q1.1) 2 x2 q1.2 hu3) ⟨q706, q707, q150, q708, rfl, rfl⟩ dv8_init rfl ⟨(Nat.le_of_ble_eq_true rfl), (Nat.le_of_ble_eq_true rfl)⟩ rfl (Nat.le_of_ble_eq_true rfl) dX7_named_145 (hcs_ret (x := ()) (r := ()) hcs) ?_
  obtain ⟨ht, hr⟩ := xth_s hf
  rw [hr]
  exact t_athrow ht q947 (hcs_ret (x := ()) (r := ()) hcs) dX7_named_148
theorem t7_named_b236 {G : CG} {A : Nat → Prop} {l : Launch} {a : List PV} {mc ms ce sl : Nat} (hfl : l.stackTraces = false) {r : (Nat ⊕ (Option Nat)) × Sg} {c0 n0 : Nat} (s0 : Option Nat) (s1 : Option Nat) (s2 : Int) (s3 : Int) (s4 : Int) (u : Sg) (hcs : ce + c0 ≤ mc ∧ sl + n0 ≤ ms) (hf : f7_named_b236 G s0 s1 s2 s3 s4 u = some (r, c0, n0)) : JW kC (bC G A) A l D7_named a (tQQ yX7_named G A a (omR r.1) r.2 mc ms) mc ms u ce sl 236 [] [pI s4, pI s3, pI s2, pR s1, pR s0] := by
  unfold f7_named_b236 at hf
  obtain ⟨b1, eb1, hg⟩ := ob hf
  clear hf
  subst eb1
  have hf := hg
  clear hg
  obtain ⟨u2, hu2, hf⟩ := ob hf
  refine c_callI [pI s2, pI s3, pI s4] [pR s0] _ (t13_init (some b1) s2 s3 s4 u hu2) ⟨q962, q963, q156, q964, rfl, rfl⟩ dv13_init rfl ⟨(Nat.le_of_ble_eq_true rfl), (Nat.le_of_ble_eq_true rfl)⟩ rfl (Nat.le_of_ble_eq_true rfl) dX7_named_236 (hcs_ret (x := ()) (r := ()) hcs) ?_
  replace hf := retU hf
  subst hf
  exact t_ofret (j_areturn (bC_mv G A) (hcs_ret (x := ()) (r := ()) hcs) rfl (Or.inl ⟨_, rfl⟩) dX7_named_239)
theorem t7_named_b149 {G : CG} {A : Nat → Prop} {l : Launch} {a : List PV} {mc ms ce sl : Nat} (hfl : l.stackTraces = false) {r : (Nat ⊕ (Option Nat)) × Sg} {c0 n0 : Nat} (v0 : Option Nat) (v1 : Int) (v3 : Option Nat) (v4 : Option Nat) (u : Sg) (hcs : ce + c0 ≤ mc ∧ sl + n0 ≤ ms) (hf : f7_named_b149 G v0 v1 v3 v4 u = some (r, c0, n0)) : JW kC (bC G A) A l D7_named a (tQQ yX7_named G A a (omR r.1) r.2 mc ms) mc ms u ce sl 149 [(0, pR v0), (1, pI v1), (3, pR v3), (4, pR v4)] [] := by
  unfold f7_named_b149 at hf
  refine j_aload_n dX7_named_149 0 rfl ?_
  obtain ⟨b1, hb1, hf⟩ := ob hf
  obtain ⟨eb1, tb1⟩ := ztg_s hb1
  obtain ⟨q2, kq2, mq2, k_q2, m_q2, hq2, hf, hkq2, hmq2⟩ := bdU_s hf
  obtain ⟨hczq2, hcs⟩ := hcs_step hcs hkq2 hmq2
  have hMq2 := t7_next (A := A) hfl (some b1) u hq2
  rcases zq2 : q2.1 with e3 | x4
  · rw [zq2] at hf hMq2
    replace hf := telL hf
    obtain ⟨ht, hr⟩ := xth_s hf
    rw [hr]
    exact x_callV [] [] _ hMq2 ⟨q647, q649, qs3, q146, q650⟩ dv7_next rfl ⟨(Nat.le_of_ble_eq_true rfl), (Nat.le_of_ble_eq_true rfl)⟩ (c_recv zcl_7 tb1) (by rw [← eb1]; rfl) (Nat.le_of_ble_eq_true rfl) dX7_named_150 hczq2 ht q947
  · rw [zq2] at hf hMq2
    replace hf := telR hf
    refine t_callV [] [] _ hMq2 ⟨q647, q649, qs3, q146, q650⟩ dv7_next rfl ⟨(Nat.le_of_ble_eq_true rfl), (Nat.le_of_ble_eq_true rfl)⟩ (c_recv zcl_7 tb1) (by rw [← eb1]; rfl) (Nat.le_of_ble_eq_true rfl) dX7_named_150 hczq2 ?_
    refine j_aload_n dX7_named_153 2 rfl ?_
    obtain ⟨x5, hx5, hf⟩ := ob hf
    refine c_getiN (ci := 9) (k := 1) hx5 zcl_9 (Nat.le_of_ble_eq_true rfl) zf_X7_164 fk_361 dX7_named_154 ?_
    refine j_iconst dX7_named_157 ?_
    refine j_icmp_ne (w32 x5) 2 rfl rfl 179 dX7_named_158 (by decide) (fun h29 => ?_) (fun h29 => ?_)
    · replace hf := ie h29 hf
      refine j_aload_n dX7_named_179 0 rfl ?_
      refine j_iconst dX7_named_180 ?_
      obtain ⟨b6, hb6, hf⟩ := ob hf
      obtain ⟨eb6, tb6⟩ := ztg_s hb6
      obtain ⟨q7, kq7, mq7, k_q7, m_q7, hq7, hf, hkq7, hmq7⟩ := bdU_s hf
      obtain ⟨hczq7, hcs⟩ := hcs_step hcs hkq7 hmq7
      have hMq7 := t7_wantKind (A := A) hfl (some b6) 1 q2.2 hq7
      rcases zq7 : q7.1 with e8 | x9
      · rw [zq7] at hf hMq7
        replace hf := telL hf
        obtain ⟨ht, hr⟩ := xth_s hf
        rw [hr]
        exact x_callV [pI 1] [] _ hMq7 ⟨q799, q801, qs15, q146, q802⟩ dv7_wantKind rfl ⟨(Nat.le_of_ble_eq_true rfl), (Nat.le_of_ble_eq_true rfl)⟩ (c_recv zcl_7 tb6) (by rw [← eb6]; rfl) (Nat.le_of_ble_eq_true rfl) dX7_named_181 hczq7 ht q947
      · rw [zq7] at hf hMq7
        replace hf := telR hf
        refine t_callV [pI 1] [] _ hMq7 ⟨q799, q801, qs15, q146, q802⟩ dv7_wantKind rfl ⟨(Nat.le_of_ble_eq_true rfl), (Nat.le_of_ble_eq_true rfl)⟩ (c_recv zcl_7 tb6) (by rw [← eb6]; rfl) (Nat.le_of_ble_eq_true rfl) dX7_named_181 hczq7 ?_
        refine j_aload_n dX7_named_184 2 rfl ?_
        refine j_aload_n dX7_named_185 0 rfl ?_
        obtain ⟨x10, hx10, hf⟩ := ob hf
        refine c_getl (ci := 7) (k := 3) hx10 zcl_7 (Nat.le_of_ble_eq_true rfl) zf_X7_53 fk_283 dX7_named_186 ?_
        obtain ⟨b11, hb11, hf⟩ := ob hf
        obtain ⟨eb11, tb11⟩ := ztg_s hb11
        obtain ⟨x12, hx12, hf⟩ := ob hf
        refine a_Vr [pL x10] [] (t9_choice (some b11) x10 q7.2 hx12) ⟨q884, q885, q886, q152, q887⟩ dv9_choice rfl ⟨(Nat.le_of_ble_eq_true rfl), (Nat.le_of_ble_eq_true rfl)⟩ (c_recv zcl_9 tb11) (by rw [← eb11]; rfl) (Nat.le_of_ble_eq_true rfl) dX7_named_189 (hcs_ret (x := ()) (r := ()) hcs) ?_
        refine j_istore dX7_named_192 [(5, pI x12), (0, pR v0), (1, pI v1), (3, pR v3), (4, pR v4)] (Nat.le_of_ble_eq_true rfl) rfl ?_
        refine j_iload dX7_named_194 0 rfl ?_
        refine j_if_ge (w32 x12) rfl 212 dX7_named_196 (by decide) (fun h22 => ?_) (fun h22 => ?_)
        · replace hf := it h22 hf
          refine j_aload_n dX7_named_212 1 rfl ?_
          obtain ⟨b13, hb13, hf⟩ := ob hf
          obtain ⟨eb13, tb13⟩ := ztg_s hb13
          obtain ⟨q14, kq14, mq14, k_q14, m_q14, hq14, hf, hkq14, hmq14⟩ := bdU_s hf
          obtain ⟨hczq14, hcs⟩ := hcs_step hcs hkq14 hmq14
          have hMq14 := t7_next (A := A) hfl (some b13) q7.2 hq14
          rcases zq14 : q14.1 with e15 | x16
          · rw [zq14] at hf hMq14
            replace hf := telL hf
            obtain ⟨ht, hr⟩ := xth_s hf
            rw [hr]
            exact x_callV [] [] _ hMq14 ⟨q647, q649, qs3, q146, q650⟩ dv7_next rfl ⟨(Nat.le_of_ble_eq_true rfl), (Nat.le_of_ble_eq_true rfl)⟩ (c_recv zcl_7 tb13) (by rw [← eb13]; rfl) (Nat.le_of_ble_eq_true rfl) dX7_named_213 hczq14 ht q947
          · rw [zq14] at hf hMq14
            replace hf := telR hf
            refine t_callV [] [] _ hMq14 ⟨q647, q649, qs3, q146, q650⟩ dv7_next rfl ⟨(Nat.le_of_ble_eq_true rfl), (Nat.le_of_ble_eq_true rfl)⟩ (c_recv zcl_7 tb13) (by rw [← eb13]; rfl) (Nat.le_of_ble_eq_true rfl) dX7_named_213 hczq14 ?_
            obtain ⟨q17, kq17, mq17, k_q17, m_q17, hq17, hf, hkq17, hmq17⟩ := bdU_s hf
            obtain ⟨hczq17, hcs⟩ := hcs_step hcs hkq17 hmq17
            refine c_new (ci := 13) hq17 zcl_13 zmk_13 q960 dX7_named_216 hczq17 ?_
            refine j_dup dX7_named_219 rfl ?_
            refine j_iload_n dX7_named_220 2 rfl ?_
            refine j_iload dX7_named_221 0 rfl ?_
            refine j_aload dX7_named_223 4 rfl ?_
            refine c_gets 5 rfl q990 dX7_named_225 ?_
            refine j_acmp_ne 235 dX7_named_228 (by decide) (fun h18 => ?_) (fun h18 => ?_)
            · replace hf := ie h18 hf
              refine j_iconst dX7_named_235 ?_
              exact j_sub [] _ rfl (t7_named_b236 hfl (some q17.1) (some q17.1) v1 x12 0 q17.2 hcs hf)
            · replace hf := it h18 hf
              refine j_iconst dX7_named_231 ?_
              refine j_goto 236 dX7_named_232 (by decide) ?_
              exact j_sub [] _ rfl (t7_named_b236 hfl (some q17.1) (some q17.1) v1 x12 1 q17.2 hcs hf)
        · replace hf := ie h22 hf
          obtain ⟨q19, kq19, mq19, k_q19, m_q19, hq19, hf, hkq19, hmq19⟩ := bdU_s hf
          obtain ⟨hczq19, hcs⟩ := hcs_step hcs hkq19 hmq19
          refine c_new (ci := 8) hq19 zcl_8 zmk_8 q667 dX7_named_199 hczq19 ?_
          refine j_dup dX7_named_202 rfl ?_
          refine j_iconst dX7_named_203 ?_
          refine j_aload_n dX7_named_204 1 rfl ?_
          obtain ⟨x20, hx20, hf⟩ := ob hf
          refine c_geti (ci := 7) (k := 2) hx20 zcl_7 (Nat.le_of_ble_eq_true rfl) zf_X7_43 fk_282 dX7_named_205 ?_
          obtain ⟨u21, hu21, hf⟩ := ob hf
          refine c_callI [pI 4, pI x20] [pR (some q19.1)] _ (t8_init hfl (some q19.1) 4 x20 q19.2 hu21) ⟨q706, q707, q150, q708, rfl, rfl⟩ dv8_init rfl ⟨(Nat.le_of_ble_eq_true rfl), (Nat.le_of_ble_eq_true rfl)⟩ rfl (Nat.le_of_ble_eq_true rfl) dX7_named_208 (hcs_ret (x := ()) (r := ()) hcs) ?_
          obtain ⟨ht, hr⟩ := xth_s hf
          rw [hr]
          exact t_athrow ht q947 (hcs_ret (x := ()) (r := ()) hcs) dX7_named_211
    · replace hf := it h29 hf
      obtain ⟨q23, kq23, mq23, k_q23, m_q23, hq23, hf, hkq23, hmq23⟩ := bdU_s hf
      obtain ⟨hczq23, hcs⟩ := hcs_step hcs hkq23 hmq23
      refine c_new (ci := 14) hq23 zcl_14 zmk_14 q992 dX7_named_161 hczq23 ?_
      refine j_dup dX7_named_164 rfl ?_
      refine j_iload_n dX7_named_165 1 rfl ?_
      refine j_aload dX7_named_166 3 rfl ?_
      refine j_aload_n dX7_named_168 0 rfl ?_
      refine j_iconst dX7_named_169 ?_
      refine j_ldc (z := 999999999) q893 (by decide) dX7_named_170 ?_
      obtain ⟨b24, hb24, hf⟩ := ob hf
      obtain ⟨eb24, tb24⟩ := ztg_s hb24
      obtain ⟨q25, kq25, mq25, k_q25, m_q25, hq25, hf, hkq25, hmq25⟩ := bdU_s hf
      obtain ⟨hczq25, hcs⟩ := hcs_step hcs hkq25 hmq25
      have hMq25 := t7_number (A := A) hfl (some b24) 0 999999999 q23.2 hq25
      rcases zq25 : q25.1 with e26 | x27
      · rw [zq25] at hf hMq25
        replace hf := telL hf
        obtain ⟨ht, hr⟩ := xth_s hf
        rw [hr]
        exact x_callV [pI 0, pI 999999999] [pR v4, pI v1, pR (some q23.1), pR (some q23.1)] _ hMq25 ⟨q894, q896, qs18, q146, q897⟩ dv7_number rfl ⟨(Nat.le_of_ble_eq_true rfl), (Nat.le_of_ble_eq_true rfl)⟩ (c_recv zcl_7 tb24) (by rw [← eb24]; rfl) (Nat.le_of_ble_eq_true rfl) dX7_named_172 hczq25 ht q947
      · rw [zq25] at hf hMq25
        replace hf := telR hf
        refine t_callV [pI 0, pI 999999999] [pR v4, pI v1, pR (some q23.1), pR (some q23.1)] _ hMq25 ⟨q894, q896, qs18, q146, q897⟩ dv7_number rfl ⟨(Nat.le_of_ble_eq_true rfl), (Nat.le_of_ble_eq_true rfl)⟩ (c_recv zcl_7 tb24) (by rw [← eb24]; rfl) (Nat.le_of_ble_eq_true rfl) dX7_named_172 hczq25 ?_
        obtain ⟨u28, hu28, hf⟩ := ob hf
        refine c_callI [pI v1, pR v4, pI x27] [pR (some q23.1)] _ (t14_init (some q23.1) v1 v4 x27 q25.2 hu28) ⟨q994, q995, q159, q996, rfl, rfl⟩ dv14_init rfl ⟨(Nat.le_of_ble_eq_true rfl), (Nat.le_of_ble_eq_true rfl)⟩ rfl (Nat.le_of_ble_eq_true rfl) dX7_named_175 (hcs_ret (x := ()) (r := ()) hcs) ?_
        replace hf := retU hf
        subst hf
        exact t_ofret (j_areturn (bC_mv G A) (hcs_ret (x := ()) (r := ()) hcs) rfl (Or.inl ⟨_, rfl⟩) dX7_named_178)
theorem t7_named_b45 {G : CG} {A : Nat → Prop} {l : Launch} {a : List PV} {mc ms ce sl : Nat} (hfl : l.stackTraces = false) {r : (Nat ⊕ (Option Nat)) × Sg} {c0 n0 : Nat} (v0 : Option Nat) (v1 : Int) (v2 : Int) (u : Sg) (hcs : ce + c0 ≤ mc ∧ sl + n0 ≤ ms) (hf : f7_named_b45 G v0 v1 v2 u = some (r, c0, n0)) : JW kC (bC G A) A l D7_named a (tQQ yX7_named G A a (omR r.1) r.2 mc ms) mc ms u ce sl 45 [(0, pR v0), (1, pI v1), (2, pI v2)] [] := by
  unfold f7_named_b45 at hf
  refine j_aload_n dX7_named_45 0 rfl ?_
  obtain ⟨b1, hb1, hf⟩ := ob hf
  obtain ⟨eb1, tb1⟩ := ztg_s hb1
  obtain ⟨q2, kq2, mq2, k_q2, m_q2, hq2, hf, hkq2, hmq2⟩ := bdU_s hf
  obtain ⟨hczq2, hcs⟩ := hcs_step hcs hkq2 hmq2
  have hMq2 := t7_node (A := A) hfl (some b1) u hq2
  rcases zq2 : q2.1 with e3 | x4
  · rw [zq2] at hf hMq2
    replace hf := telL hf
    obtain ⟨ht, hr⟩ := xth_s hf
    rw [hr]
    exact x_callV [] [] _ hMq2 ⟨q923, q925, qs24, q146, q926⟩ dv7_node rfl ⟨(Nat.le_of_ble_eq_true rfl), (Nat.le_of_ble_eq_true rfl)⟩ (c_recv zcl_7 tb1) (by rw [← eb1]; rfl) (Nat.le_of_ble_eq_true rfl) dX7_named_46 hczq2 ht q947
  · rw [zq2] at hf hMq2
    replace hf := telR hf
    refine t_callV [] [] _ hMq2 ⟨q923, q925, qs24, q146, q926⟩ dv7_node rfl ⟨(Nat.le_of_ble_eq_true rfl), (Nat.le_of_ble_eq_true rfl)⟩ (c_recv zcl_7 tb1) (by rw [← eb1]; rfl) (Nat.le_of_ble_eq_true rfl) dX7_named_46 hczq2 ?_
    refine j_aload_n dX7_named_49 0 rfl ?_
    obtain ⟨b5, hb5, hf⟩ := ob hf
    obtain ⟨eb5, tb5⟩ := ztg_s hb5
    obtain ⟨q6, kq6, mq6, k_q6, m_q6, hq6, hf, hkq6, hmq6⟩ := bdU_s hf
    obtain ⟨hczq6, hcs⟩ := hcs_step hcs hkq6 hmq6
    have hMq6 := t7_next (A := A) hfl (some b5) q2.2 hq6
    rcases zq6 : q6.1 with e7 | x8
    · rw [zq6] at hf hMq6
      replace hf := telL hf
      obtain ⟨ht, hr⟩ := xth_s hf
      rw [hr]
      exact x_callV [] [] _ hMq6 ⟨q647, q649, qs3, q146, q650⟩ dv7_next rfl ⟨(Nat.le_of_ble_eq_true rfl), (Nat.le_of_ble_eq_true rfl)⟩ (c_recv zcl_7 tb5) (by rw [← eb5]; rfl) (Nat.le_of_ble_eq_true rfl) dX7_named_50 hczq6 ht q947
    · rw [zq6] at hf hMq6
      replace hf := telR hf
      refine t_callV [] [] _ hMq6 ⟨q647, q649, qs3, q146, q650⟩ dv7_next rfl ⟨(Nat.le_of_ble_eq_true rfl), (Nat.le_of_ble_eq_true rfl)⟩ (c_recv zcl_7 tb5) (by rw [← eb5]; rfl) (Nat.le_of_ble_eq_true rfl) dX7_named_50 hczq6 ?_
      refine j_iload_n dX7_named_53 1 rfl ?_
      refine j_if_ge (w32 v1) rfl 66 dX7_named_54 (by decide) (fun h27 => ?_) (fun h27 => ?_)
      · replace hf := it h27 hf
        refine j_aload_n dX7_named_66 0 rfl ?_
        obtain ⟨x9, hx9, hf⟩ := ob hf
        refine c_geta (ci := 7) (k := 6) hx9 zcl_7 (Nat.le_of_ble_eq_true rfl) zf_X7_15 fk_286 dX7_named_67 ?_
        obtain ⟨x10, hx10, hf⟩ := ob hf
        refine c_getaN (ci := 6) (k := 0) hx10 zcl_6 (Nat.le_of_ble_eq_true rfl) zf_X7_155 fk_240 dX7_named_70 ?_
        refine j_iload_n dX7_named_73 1 rfl ?_
        obtain ⟨b11, hb11, hf⟩ := ob hf
        obtain ⟨eb11, tb11⟩ := ztg_s hb11
        obtain ⟨x12, hx12, hf⟩ := ob hf
        refine a_Fr (x := ix_1) [pI v1] [] (tJ2_get (some b11) v1 q6.2 hx12) ⟨q959, q813, q815, q131, q817⟩ iF_1 df_1 rfl ⟨(Nat.le_of_ble_eq_true rfl), (Nat.le_of_ble_eq_true rfl)⟩ zcl_5 rfl tb11 (by rw [← eb11]; rfl) (Nat.le_of_ble_eq_true rfl) dX7_named_74 (hcs_ret (x := ()) (r := ()) hcs) ?_
        obtain ⟨y13, hy13, hf⟩ := ob hf
        refine c_cast hy13 zok_Fact q841 dX7_named_79 ?_
        refine j_astore_n dX7_named_82 [(3, pR x12), (0, pR v0), (1, pI v1), (2, pI v2)] (Nat.le_of_ble_eq_true rfl) rfl ?_
        refine j_aload_n dX7_named_83 0 rfl ?_
        obtain ⟨x14, hx14, hf⟩ := ob hf
        refine c_getiN (ci := 9) (k := 1) hx14 zcl_9 (Nat.le_of_ble_eq_true rfl) zf_X7_164 fk_361 dX7_named_84 ?_
        refine j_if_ne (w32 x14) rfl 101 dX7_named_87 (by decide) (fun h24 => ?_) (fun h24 => ?_)
        · replace hf := ie h24 hf
          refine j_aload_n dX7_named_101 1 rfl ?_
          obtain ⟨b15, hb15, hf⟩ := ob hf
          obtain ⟨eb15, tb15⟩ := ztg_s hb15
          obtain ⟨x16, hx16, hf⟩ := ob hf
          refine a_Vr [] [] (t7_signAtHand (some b15) q6.2 hx16) ⟨q976, q978, qs27, q146, q979⟩ dv7_signAtHand rfl ⟨(Nat.le_of_ble_eq_true rfl), (Nat.le_of_ble_eq_true rfl)⟩ (c_recv zcl_7 tb15) (by rw [← eb15]; rfl) (Nat.le_of_ble_eq_true rfl) dX7_named_102 (hcs_ret (x := ()) (r := ()) hcs) ?_
          refine j_astore dX7_named_105 [(4, pR x16), (3, pR x12), (0, pR v0), (1, pI v1), (2, pI v2)] (Nat.le_of_ble_eq_true rfl) rfl ?_
          refine j_aload dX7_named_107 0 rfl ?_
          refine j_ifnull 136 dX7_named_109 (by decide) (fun h21 => ?_) (fun h21 => ?_)
          · replace hf := it h21 hf
            exact j_sub [2] _ rfl (t7_named_b136 hfl v0 q6.2 hcs hf)
          · replace hf := ie h21 hf
            refine j_aload_n dX7_named_112 1 rfl ?_
            obtain ⟨x17, hx17, hf⟩ := ob hf
            refine c_getiN (ci := 9) (k := 1) hx17 zcl_9 (Nat.le_of_ble_eq_true rfl) zf_X7_164 fk_361 dX7_named_113 ?_
            refine j_iconst dX7_named_116 ?_
            refine j_icmp_ne (w32 x17) 1 rfl rfl 149 dX7_named_117 (by decide) (fun h20 => ?_) (fun h20 => ?_)
            · replace hf := ie h20 hf
              exact j_sub [2, 3, 1, 0] _ rfl (t7_named_b149 hfl v0 v1 x12 x16 q6.2 hcs hf)
            · replace hf := it h20 hf
              refine j_aload dX7_named_120 0 rfl ?_
              refine c_gets 0 rfl q980 dX7_named_122 ?_
              refine j_acmp_eq 149 dX7_named_125 (by decide) (fun h19 => ?_) (fun h19 => ?_)
              · replace hf := it h19 hf
                exact j_sub [2, 3, 1, 0] _ rfl (t7_named_b149 hfl v0 v1 x12 x16 q6.2 hcs hf)
              · replace hf := ie h19 hf
                refine j_aload dX7_named_128 0 rfl ?_
                refine c_gets 5 rfl q990 dX7_named_130 ?_
                refine j_acmp_eq 149 dX7_named_133 (by decide) (fun h18 => ?_) (fun h18 => ?_)
                · replace hf := it h18 hf
                  exact j_sub [2, 3, 1, 0] _ rfl (t7_named_b149 hfl v0 v1 x12 x16 q6.2 hcs hf)
                · replace hf := ie h18 hf
                  exact j_sub [2] _ rfl (t7_named_b136 hfl v0 q6.2 hcs hf)
        · replace hf := it h24 hf
          obtain ⟨q22, kq22, mq22, k_q22, m_q22, hq22, hf, hkq22, hmq22⟩ := bdU_s hf
          obtain ⟨hczq22, hcs⟩ := hcs_step hcs hkq22 hmq22
          refine c_new (ci := 13) hq22 zcl_13 zmk_13 q960 dX7_named_90 hczq22 ?_
          refine j_dup dX7_named_93 rfl ?_
          refine j_iload_n dX7_named_94 2 rfl ?_
          refine j_iconst dX7_named_95 ?_
          refine j_iconst dX7_named_96 ?_
          obtain ⟨u23, hu23, hf⟩ := ob hf
          refine c_callI [pI v1, pI 1, pI 0] [pR (some q22.1)] _ (t13_init (some q22.1) v1 1 0 q22.2 hu23) ⟨q962, q963, q156, q964, rfl, rfl⟩ dv13_init rfl ⟨(Nat.le_of_ble_eq_true rfl), (Nat.le_of_ble_eq_true rfl)⟩ rfl (Nat.le_of_ble_eq_true rfl) dX7_named_97 (hcs_ret (x := ()) (r := ()) hcs) ?_
          replace hf := retU hf
          subst hf
          exact t_ofret (j_areturn (bC_mv G A) (hcs_ret (x := ()) (r := ()) hcs) rfl (Or.inl ⟨_, rfl⟩) dX7_named_100)
      · replace hf := ie h27 hf
        obtain ⟨q25, kq25, mq25, k_q25, m_q25, hq25, hf, hkq25, hmq25⟩ := bdU_s hf
        obtain ⟨hczq25, hcs⟩ := hcs_step hcs hkq25 hmq25
        refine c_new (ci := 12) hq25 zcl_12 zmk_12 q948 dX7_named_57 hczq25 ?_
        refine j_dup dX7_named_60 rfl ?_
        refine j_iload_n dX7_named_61 2 rfl ?_
        obtain ⟨u26, hu26, hf⟩ := ob hf
        refine c_callI [pI v2] [pR (some q25.1)] _ (t12_init (some q25.1) v2 q25.2 hu26) ⟨q950, q951, q155, q952, rfl, rfl⟩ dv12_init rfl ⟨(Nat.le_of_ble_eq_true rfl), (Nat.le_of_ble_eq_true rfl)⟩ rfl (Nat.le_of_ble_eq_true rfl) dX7_named_62 (hcs_ret (x := ()) (r := ()) hcs) ?_
        replace hf := retU hf
        subst hf
        exact t_ofret (j_areturn (bC_mv G A) (hcs_ret (x := ()) (r := ()) hcs) rfl (Or.inl ⟨_, rfl⟩) dX7_named_65)
theorem t7_named {G : CG} {A : Nat → Prop} {l : Launch} (hfl : l.stackTraces = false) {r : (Nat ⊕ (Option Nat)) × Sg} {c0 n0 : Nat} (v0 : Option Nat) (u : Sg) (hf : f7_named G v0 u = some (r, c0, n0)) : JMT G A l yX7_named D7_named [pR v0] u (omR r.1) r.2 c0 n0 := by
  refine t_met (lv0 := [(0, pR v0)]) ⟨pl_X7, rfl, rfl, (Nat.le_of_ble_eq_true rfl), rfl⟩ ?_
  have hcs : 0 + c0 ≤ c0 ∧ 0 + n0 ≤ n0 := ⟨by omega, by omega⟩
  unfold f7_named at hf
  refine j_aload_n dX7_named_0 0 rfl ?_
  obtain ⟨x1, hx1, hf⟩ := ob hf
  refine c_geta (ci := 7) (k := 6) hx1 zcl_7 (Nat.le_of_ble_eq_true rfl) zf_X7_15 fk_286 dX7_named_1 ?_
  refine j_aload_n dX7_named_4 0 rfl ?_
  obtain ⟨x2, hx2, hf⟩ := ob hf
  refine c_getl (ci := 7) (k := 3) hx2 zcl_7 (Nat.le_of_ble_eq_true rfl) zf_X7_53 fk_283 dX7_named_5 ?_
  obtain ⟨b3, hb3, hf⟩ := ob hf
  obtain ⟨eb3, tb3⟩ := ztg_s hb3
  obtain ⟨x4, hx4, hf⟩ := ob hf
  refine a_Vr [pL x2] [] (t6_fact (some b3) x2 u hx4) ⟨q803, q804, q805, q145, q806⟩ dv6_fact rfl ⟨(Nat.le_of_ble_eq_true rfl), (Nat.le_of_ble_eq_true rfl)⟩ (c_recv zcl_6 tb3) (by rw [← eb3]; rfl) (Nat.le_of_ble_eq_true rfl) dX7_named_8 (hcs_ret (x := ()) (r := ()) hcs) ?_
  refine j_istore_n dX7_named_11 [(1, pI x4), (0, pR v0)] (Nat.le_of_ble_eq_true rfl) rfl ?_
  refine j_aload_n dX7_named_12 1 rfl ?_
  obtain ⟨x5, hx5, hf⟩ := ob hf
  refine c_geta (ci := 7) (k := 6) hx5 zcl_7 (Nat.le_of_ble_eq_true rfl) zf_X7_15 fk_286 dX7_named_13 ?_
  refine j_aload_n dX7_named_16 1 rfl ?_
  obtain ⟨x6, hx6, hf⟩ := ob hf
  refine c_getl (ci := 7) (k := 3) hx6 zcl_7 (Nat.le_of_ble_eq_true rfl) zf_X7_53 fk_283 dX7_named_17 ?_
  obtain ⟨b7, hb7, hf⟩ := ob hf
  obtain ⟨eb7, tb7⟩ := ztg_s hb7
  obtain ⟨x8, hx8, hf⟩ := ob hf
  refine a_Vr [pL x6] [] (t6_meaning (some b7) x6 u hx8) ⟨q829, q830, q831, q145, q832⟩ dv6_meaning rfl ⟨(Nat.le_of_ble_eq_true rfl), (Nat.le_of_ble_eq_true rfl)⟩ (c_recv zcl_6 tb7) (by rw [← eb7]; rfl) (Nat.le_of_ble_eq_true rfl) dX7_named_20 (hcs_ret (x := ()) (r := ()) hcs) ?_
  refine j_istore_n dX7_named_23 [(2, pI x8), (1, pI x4), (0, pR v0)] (Nat.le_of_ble_eq_true rfl) rfl ?_
  refine j_iload_n dX7_named_24 1 rfl ?_
  refine j_if_ge (w32 x4) rfl 45 dX7_named_25 (by decide) (fun h13 => ?_) (fun h13 => ?_)
  · replace hf := it h13 hf
    exact j_sub [2, 1, 0] _ rfl (t7_named_b45 hfl v0 x4 x8 u hcs hf)
  · replace hf := ie h13 hf
    refine j_iload_n dX7_named_28 0 rfl ?_
    refine j_if_ge (w32 x8) rfl 45 dX7_named_29 (by decide) (fun h12 => ?_) (fun h12 => ?_)
    · replace hf := it h12 hf
      exact j_sub [2, 1, 0] _ rfl (t7_named_b45 hfl v0 x4 x8 u hcs hf)
    · replace hf := ie h12 hf
      obtain ⟨q9, kq9, mq9, k_q9, m_q9, hq9, hf, hkq9, hmq9⟩ := bdU_s hf
      obtain ⟨hczq9, hcs⟩ := hcs_step hcs hkq9 hmq9
      refine c_new (ci := 8) hq9 zcl_8 zmk_8 q667 dX7_named_32 hczq9 ?_
      refine j_dup dX7_named_35 rfl ?_
      refine j_iconst dX7_named_36 ?_
      refine j_aload_n dX7_named_37 2 rfl ?_
      obtain ⟨x10, hx10, hf⟩ := ob hf
      refine c_geti (ci := 7) (k := 2) hx10 zcl_7 (Nat.le_of_ble_eq_true rfl) zf_X7_43 fk_282 dX7_named_38 ?_
      obtain ⟨u11, hu11, hf⟩ := ob hf
      refine c_callI [pI 4, pI x10] [pR (some q9.1)] _ (t8_init hfl (some q9.1) 4 x10 q9.2 hu11) ⟨q706, q707, q150, q708, rfl, rfl⟩ dv8_init rfl ⟨(Nat.le_of_ble_eq_true rfl), (Nat.le_of_ble_eq_true rfl)⟩ rfl (Nat.le_of_ble_eq_true rfl) dX7_named_41 (hcs_ret (x := ()) (r := ()) hcs) ?_
      obtain ⟨ht, hr⟩ := xth_s hf
      rw [hr]
      exact t_athrow ht q947 (hcs_ret (x := ()) (r := ()) hcs) dX7_named_44
theorem t7_want {G : CG} {A : Nat → Prop} {l : Launch} (hfl : l.stackTraces = false) {r : (Nat ⊕ (Unit)) × Sg} {c0 n0 : Nat} (v0 : Option Nat) (v1 : Int) (u : Sg) (hf : f7_want G v0 v1 u = some (r, c0, n0)) : JMT G A l yX7_want D7_want [pR v0, pI v1] u (omV r.1) r.2 c0 n0 := by
  refine t_met (lv0 := [(0, pR v0), (1, pI v1)]) ⟨pl_X7, rfl, rfl, (Nat.le_of_ble_eq_true rfl), rfl⟩ ?_
  have hcs : 0 + c0 ≤ c0 ∧ 0 + n0 ≤ n0 := ⟨by omega, by omega⟩
  unfold f7_want at hf
  refine j_aload_n dX7_want_0 0 rfl ?_
  refine j_iload_n dX7_want_1 1 rfl ?_
  obtain ⟨b1, hb1, hf⟩ := ob hf
  obtain ⟨eb1, tb1⟩ := ztg_s hb1
  obtain ⟨x2, hx2, hf⟩ := ob hf
  refine a_Vr [pI v1] [] (t7_isSign (some b1) v1 u hx2) ⟨q888, q890, qs17, q146, q891⟩ dv7_isSign rfl ⟨(Nat.le_of_ble_eq_true rfl), (Nat.le_of_ble_eq_true rfl)⟩ (c_recv zcl_7 tb1) (by rw [← eb1]; rfl) (Nat.le_of_ble_eq_true rfl) dX7_want_2 (hcs_ret (x := ()) (r := ()) hcs) ?_
  refine j_if_ne (w32 x2) rfl 21 dX7_want_5 (by decide) (fun h10 => ?_) (fun h10 => ?_)
  · replace hf := ie h10 hf
    refine j_aload_n dX7_want_21 0 rfl ?_
    obtain ⟨b3, hb3, hf⟩ := ob hf
    obtain ⟨eb3, tb3⟩ := ztg_s hb3
    obtain ⟨q4, kq4, mq4, k_q4, m_q4, hq4, hf, hkq4, hmq4⟩ := bdU_s hf
    obtain ⟨hczq4, hcs⟩ := hcs_step hcs hkq4 hmq4
    have hMq4 := t7_next (A := A) hfl (some b3) u hq4
    rcases zq4 : q4.1 with e5 | x6
    · rw [zq4] at hf hMq4
      replace hf := telL hf
      obtain ⟨ht, hr⟩ := xth_s hf
      rw [hr]
      exact x_callV [] [] _ hMq4 ⟨q647, q649, qs3, q146, q650⟩ dv7_next rfl ⟨(Nat.le_of_ble_eq_true rfl), (Nat.le_of_ble_eq_true rfl)⟩ (c_recv zcl_7 tb3) (by rw [← eb3]; rfl) (Nat.le_of_ble_eq_true rfl) dX7_want_22 hczq4 ht q902
    · rw [zq4] at hf hMq4
      replace hf := telR hf
      refine t_callV [] [] _ hMq4 ⟨q647, q649, qs3, q146, q650⟩ dv7_next rfl ⟨(Nat.le_of_ble_eq_true rfl), (Nat.le_of_ble_eq_true rfl)⟩ (c_recv zcl_7 tb3) (by rw [← eb3]; rfl) (Nat.le_of_ble_eq_true rfl) dX7_want_22 hczq4 ?_
      replace hf := retU hf
      subst hf
      exact t_ofret (j_return (bC_mv G A) (hcs_ret (x := ()) (r := ()) hcs) rfl dX7_want_25)
  · replace hf := it h10 hf
    obtain ⟨q7, kq7, mq7, k_q7, m_q7, hq7, hf, hkq7, hmq7⟩ := bdU_s hf
    obtain ⟨hczq7, hcs⟩ := hcs_step hcs hkq7 hmq7
    refine c_new (ci := 8) hq7 zcl_8 zmk_8 q667 dX7_want_8 hczq7 ?_
    refine j_dup dX7_want_11 rfl ?_
    refine j_iconst dX7_want_12 ?_
    refine j_aload_n dX7_want_13 0 rfl ?_
    obtain ⟨x8, hx8, hf⟩ := ob hf
    refine c_geti (ci := 7) (k := 2) hx8 zcl_7 (Nat.le_of_ble_eq_true rfl) zf_X7_43 fk_282 dX7_want_14 ?_
    obtain ⟨u9, hu9, hf⟩ := ob hf
    refine c_callI [pI 2, pI x8] [pR (some q7.1)] _ (t8_init hfl (some q7.1) 2 x8 q7.2 hu9) ⟨q706, q707, q150, q708, rfl, rfl⟩ dv8_init rfl ⟨(Nat.le_of_ble_eq_true rfl), (Nat.le_of_ble_eq_true rfl)⟩ rfl (Nat.le_of_ble_eq_true rfl) dX7_want_17 (hcs_ret (x := ()) (r := ()) hcs) ?_
    obtain ⟨ht, hr⟩ := xth_s hf
    rw [hr]
    exact t_athrow ht q902 (hcs_ret (x := ()) (r := ()) hcs) dX7_want_20
theorem t7_part {G : CG} {A : Nat → Prop} {l : Launch} (hfl : l.stackTraces = false) {d : Nat} (rc : RC7) (hrc : HR7 G A l d rc) {r : (Nat ⊕ (Option Nat)) × Sg} {c0 n0 : Nat} (v0 : Option Nat) (u : Sg) (hf : f7_part G rc v0 u = some (r, c0, n0)) : JMT G A l yX7_part (D7_part (d + 1)) [pR v0] u (omR r.1) r.2 c0 n0 := by
  refine t_met (lv0 := [(0, pR v0)]) ⟨pl_X7, rfl, rfl, (Nat.le_of_ble_eq_true rfl), rfl⟩ ?_
  have hcs : 0 + c0 ≤ c0 ∧ 0 + n0 ≤ n0 := ⟨by omega, by omega⟩
  unfold f7_part at hf
  refine j_aload_n dX7_part_0 0 rfl ?_
  refine j_ldc2 (z := 7237492) q922 (by decide) dX7_part_1 ?_
  obtain ⟨b1, hb1, hf⟩ := ob hf
  obtain ⟨eb1, tb1⟩ := ztg_s hb1
  obtain ⟨x2, hx2, hf⟩ := ob hf
  refine a_Vr [pL 7237492] [] (t7_is (some b1) 7237492 u hx2) ⟨q787, q789, qs12, q146, q790⟩ dv7_is rfl ⟨by show 0 + 1 ≤ 20 + (d + 1); omega, by show 8 + (3 + 11) + 0 ≤ 300 + 60 * (d + 1); omega⟩ (c_recv zcl_7 tb1) (by rw [← eb1]; rfl) (Nat.le_of_ble_eq_true rfl) dX7_part_4 (hcs_ret (x := ()) (r := ()) hcs) ?_
  refine j_if_eq (w32 x2) rfl 42 dX7_part_7 (by decide) (fun h44 => ?_) (fun h44 => ?_)
  · replace hf := it h44 hf
    refine j_aload_n dX7_part_42 0 rfl ?_
    refine j_bipush dX7_part_43 (by decide) ?_
    obtain ⟨b3, hb3, hf⟩ := ob hf
    obtain ⟨eb3, tb3⟩ := ztg_s hb3
    obtain ⟨x4, hx4, hf⟩ := ob hf
    refine a_Vr [pI 40] [] (t7_isSign (some b3) 40 u hx4) ⟨q888, q890, qs17, q146, q891⟩ dv7_isSign rfl ⟨by show 0 + 1 ≤ 20 + (d + 1); omega, by show 8 + (2 + 11) + 0 ≤ 300 + 60 * (d + 1); omega⟩ (c_recv zcl_7 tb3) (by rw [← eb3]; rfl) (Nat.le_of_ble_eq_true rfl) dX7_part_45 (hcs_ret (x := ()) (r := ()) hcs) ?_
    refine j_if_eq (w32 x4) rfl 78 dX7_part_48 (by decide) (fun h27 => ?_) (fun h27 => ?_)
    · replace hf := it h27 hf
      refine j_aload_n dX7_part_78 0 rfl ?_
      refine j_iconst dX7_part_79 ?_
      obtain ⟨b5, hb5, hf⟩ := ob hf
      obtain ⟨eb5, tb5⟩ := ztg_s hb5
      obtain ⟨q6, kq6, mq6, k_q6, m_q6, hq6, hf, hkq6, hmq6⟩ := bdU_s hf
      obtain ⟨hczq6, hcs⟩ := hcs_step hcs hkq6 hmq6
      have hMq6 := t7_wantKind (A := A) hfl (some b5) 1 u hq6
      rcases zq6 : q6.1 with e7 | x8
      · rw [zq6] at hf hMq6
        replace hf := telL hf
        obtain ⟨ht, hr⟩ := xth_s hf
        rw [hr]
        exact x_callV [pI 1] [] _ hMq6 ⟨q799, q801, qs15, q146, q802⟩ dv7_wantKind rfl ⟨by show 6 + 1 ≤ 20 + (d + 1); omega, by show 8 + (2 + 11) + 122 ≤ 300 + 60 * (d + 1); omega⟩ (c_recv zcl_7 tb5) (by rw [← eb5]; rfl) (Nat.le_of_ble_eq_true rfl) dX7_part_80 hczq6 ht q921
      · rw [zq6] at hf hMq6
        replace hf := telR hf
        refine t_callV [pI 1] [] _ hMq6 ⟨q799, q801, qs15, q146, q802⟩ dv7_wantKind rfl ⟨by show 6 + 1 ≤ 20 + (d + 1); omega, by show 8 + (2 + 11) + 122 ≤ 300 + 60 * (d + 1); omega⟩ (c_recv zcl_7 tb5) (by rw [← eb5]; rfl) (Nat.le_of_ble_eq_true rfl) dX7_part_80 hczq6 ?_
        refine j_aload_n dX7_part_83 0 rfl ?_
        obtain ⟨b9, hb9, hf⟩ := ob hf
        obtain ⟨eb9, tb9⟩ := ztg_s hb9
        obtain ⟨q10, kq10, mq10, k_q10, m_q10, hq10, hf, hkq10, hmq10⟩ := bdU_s hf
        obtain ⟨hczq10, hcs⟩ := hcs_step hcs hkq10 hmq10
        have hMq10 := t7_named (A := A) hfl (some b9) q6.2 hq10
        rcases zq10 : q10.1 with e11 | x12
        · rw [zq10] at hf hMq10
          replace hf := telL hf
          obtain ⟨ht, hr⟩ := xth_s hf
          rw [hr]
          exact x_callV [] [] _ hMq10 ⟨q944, q946, qs26, q146, q947⟩ dv7_named rfl ⟨by show 9 + 1 ≤ 20 + (d + 1); omega, by show 8 + (6 + 11) + 189 ≤ 300 + 60 * (d + 1); omega⟩ (c_recv zcl_7 tb9) (by rw [← eb9]; rfl) (Nat.le_of_ble_eq_true rfl) dX7_part_84 hczq10 ht q921
        · rw [zq10] at hf hMq10
          replace hf := telR hf
          refine t_callV [] [] _ hMq10 ⟨q944, q946, qs26, q146, q947⟩ dv7_named rfl ⟨by show 9 + 1 ≤ 20 + (d + 1); omega, by show 8 + (6 + 11) + 189 ≤ 300 + 60 * (d + 1); omega⟩ (c_recv zcl_7 tb9) (by rw [← eb9]; rfl) (Nat.le_of_ble_eq_true rfl) dX7_part_84 hczq10 ?_
          replace hf := retU hf
          subst hf
          exact t_ofret (j_areturn (bC_mv G A) (hcs_ret (x := ()) (r := ()) hcs) rfl (Or.inl ⟨_, rfl⟩) dX7_part_87)
    · replace hf := ie h27 hf
      refine j_aload_n dX7_part_51 0 rfl ?_
      obtain ⟨b13, hb13, hf⟩ := ob hf
      obtain ⟨eb13, tb13⟩ := ztg_s hb13
      obtain ⟨q14, kq14, mq14, k_q14, m_q14, hq14, hf, hkq14, hmq14⟩ := bdU_s hf
      obtain ⟨hczq14, hcs⟩ := hcs_step hcs hkq14 hmq14
      have hMq14 := t7_deeper (A := A) hfl (some b13) u hq14
      rcases zq14 : q14.1 with e15 | x16
      · rw [zq14] at hf hMq14
        replace hf := telL hf
        obtain ⟨ht, hr⟩ := xth_s hf
        rw [hr]
        exact x_callV [] [] _ hMq14 ⟨q927, q929, qs25, q146, q930⟩ dv7_deeper rfl ⟨by show 8 + 1 ≤ 20 + (d + 1); omega, by show 8 + (1 + 11) + 166 ≤ 300 + 60 * (d + 1); omega⟩ (c_recv zcl_7 tb13) (by rw [← eb13]; rfl) (Nat.le_of_ble_eq_true rfl) dX7_part_52 hczq14 ht q921
      · rw [zq14] at hf hMq14
        replace hf := telR hf
        refine t_callV [] [] _ hMq14 ⟨q927, q929, qs25, q146, q930⟩ dv7_deeper rfl ⟨by show 8 + 1 ≤ 20 + (d + 1); omega, by show 8 + (1 + 11) + 166 ≤ 300 + 60 * (d + 1); omega⟩ (c_recv zcl_7 tb13) (by rw [← eb13]; rfl) (Nat.le_of_ble_eq_true rfl) dX7_part_52 hczq14 ?_
        refine j_aload_n dX7_part_55 0 rfl ?_
        obtain ⟨b17, hb17, hf⟩ := ob hf
        obtain ⟨eb17, tb17⟩ := ztg_s hb17
        obtain ⟨q18, kq18, mq18, k_q18, m_q18, hq18, hf, hkq18, hmq18⟩ := bdU_s hf
        obtain ⟨hczq18, hcs⟩ := hcs_step hcs hkq18 hmq18
        have hMq18 := hrc.1 (some b17) q14.2 q18 kq18 mq18 hq18
        rcases zq18 : q18.1 with e19 | x20
        · rw [zq18] at hf hMq18
          replace hf := telL hf
          obtain ⟨ht, hr⟩ := xth_s hf
          rw [hr]
          exact x_callV [] [] _ hMq18 ⟨q910, q912, qs21, q146, q913⟩ dv7_cond rfl ⟨by show 20 + d + 1 ≤ 20 + (d + 1); omega, by show 8 + (1 + 11) + (300 + 60 * d) ≤ 300 + 60 * (d + 1); omega⟩ (c_recv zcl_7 tb17) (by rw [← eb17]; rfl) (Nat.le_of_ble_eq_true rfl) dX7_part_56 hczq18 ht q921
        · rw [zq18] at hf hMq18
          replace hf := telR hf
          refine t_callV [] [] _ hMq18 ⟨q910, q912, qs21, q146, q913⟩ dv7_cond rfl ⟨by show 20 + d + 1 ≤ 20 + (d + 1); omega, by show 8 + (1 + 11) + (300 + 60 * d) ≤ 300 + 60 * (d + 1); omega⟩ (c_recv zcl_7 tb17) (by rw [← eb17]; rfl) (Nat.le_of_ble_eq_true rfl) dX7_part_56 hczq18 ?_
          refine j_astore_n dX7_part_59 [(1, pR x20), (0, pR v0)] (Nat.le_of_ble_eq_true rfl) rfl ?_
          refine j_aload_n dX7_part_60 1 rfl ?_
          refine j_bipush dX7_part_61 (by decide) ?_
          obtain ⟨b21, hb21, hf⟩ := ob hf
          obtain ⟨eb21, tb21⟩ := ztg_s hb21
          obtain ⟨q22, kq22, mq22, k_q22, m_q22, hq22, hf, hkq22, hmq22⟩ := bdU_s hf
          obtain ⟨hczq22, hcs⟩ := hcs_step hcs hkq22 hmq22
          have hMq22 := t7_want (A := A) hfl (some b21) 41 q18.2 hq22
          rcases zq22 : q22.1 with e23 | x24
          · rw [zq22] at hf hMq22
            replace hf := telL hf
            obtain ⟨ht, hr⟩ := xth_s hf
            rw [hr]
            exact x_callV [pI 41] [] _ hMq22 ⟨q899, q901, qs19, q146, q902⟩ dv7_want rfl ⟨by show 8 + 1 ≤ 20 + (d + 1); omega, by show 8 + (2 + 11) + 166 ≤ 300 + 60 * (d + 1); omega⟩ (c_recv zcl_7 tb21) (by rw [← eb21]; rfl) (Nat.le_of_ble_eq_true rfl) dX7_part_63 hczq22 ht q921
          · rw [zq22] at hf hMq22
            replace hf := telR hf
            refine t_callV [pI 41] [] _ hMq22 ⟨q899, q901, qs19, q146, q902⟩ dv7_want rfl ⟨by show 8 + 1 ≤ 20 + (d + 1); omega, by show 8 + (2 + 11) + 166 ≤ 300 + 60 * (d + 1); omega⟩ (c_recv zcl_7 tb21) (by rw [← eb21]; rfl) (Nat.le_of_ble_eq_true rfl) dX7_part_63 hczq22 ?_
            refine j_aload_n dX7_part_66 1 rfl ?_
            refine j_dup dX7_part_67 rfl ?_
            obtain ⟨x25, hx25, hf⟩ := ob hf
            refine c_geti (ci := 7) (k := 7) hx25 zcl_7 (Nat.le_of_ble_eq_true rfl) zf_X7_125 fk_287 dX7_part_68 ?_
            refine j_iconst dX7_part_71 ?_
            refine j_isub dX7_part_72 ?_
            obtain ⟨u26, hu26, hf⟩ := ob hf
            refine c_puti (ci := 7) (k := 7) hu26 zcl_7 (Nat.le_of_ble_eq_true rfl) zf_X7_125 fk_287 rfl fits_I dX7_part_73 ?_
            refine j_aload_n dX7_part_76 0 rfl ?_
            replace hf := retU hf
            subst hf
            exact t_ofret (j_areturn (bC_mv G A) (hcs_ret (x := ()) (r := ()) hcs) rfl (Or.inl ⟨_, rfl⟩) dX7_part_77)
  · replace hf := ie h44 hf
    refine j_aload_n dX7_part_10 0 rfl ?_
    obtain ⟨b28, hb28, hf⟩ := ob hf
    obtain ⟨eb28, tb28⟩ := ztg_s hb28
    obtain ⟨q29, kq29, mq29, k_q29, m_q29, hq29, hf, hkq29, hmq29⟩ := bdU_s hf
    obtain ⟨hczq29, hcs⟩ := hcs_step hcs hkq29 hmq29
    have hMq29 := t7_node (A := A) hfl (some b28) u hq29
    rcases zq29 : q29.1 with e30 | x31
    · rw [zq29] at hf hMq29
      replace hf := telL hf
      obtain ⟨ht, hr⟩ := xth_s hf
      rw [hr]
      exact x_callV [] [] _ hMq29 ⟨q923, q925, qs24, q146, q926⟩ dv7_node rfl ⟨by show 6 + 1 ≤ 20 + (d + 1); omega, by show 8 + (1 + 11) + 122 ≤ 300 + 60 * (d + 1); omega⟩ (c_recv zcl_7 tb28) (by rw [← eb28]; rfl) (Nat.le_of_ble_eq_true rfl) dX7_part_11 hczq29 ht q921
    · rw [zq29] at hf hMq29
      replace hf := telR hf
      refine t_callV [] [] _ hMq29 ⟨q923, q925, qs24, q146, q926⟩ dv7_node rfl ⟨by show 6 + 1 ≤ 20 + (d + 1); omega, by show 8 + (1 + 11) + 122 ≤ 300 + 60 * (d + 1); omega⟩ (c_recv zcl_7 tb28) (by rw [← eb28]; rfl) (Nat.le_of_ble_eq_true rfl) dX7_part_11 hczq29 ?_
      refine j_aload_n dX7_part_14 0 rfl ?_
      obtain ⟨b32, hb32, hf⟩ := ob hf
      obtain ⟨eb32, tb32⟩ := ztg_s hb32
      obtain ⟨q33, kq33, mq33, k_q33, m_q33, hq33, hf, hkq33, hmq33⟩ := bdU_s hf
      obtain ⟨hczq33, hcs⟩ := hcs_step hcs hkq33 hmq33
      have hMq33 := t7_deeper (A := A) hfl (some b32) q29.2 hq33
      rcases zq33 : q33.1 with e34 | x35
      · rw [zq33] at hf hMq33
        replace hf := telL hf
        obtain ⟨ht, hr⟩ := xth_s hf
        rw [hr]
        exact x_callV [] [] _ hMq33 ⟨q927, q929, qs25, q146, q930⟩ dv7_deeper rfl ⟨by show 8 + 1 ≤ 20 + (d + 1); omega, by show 8 + (1 + 11) + 166 ≤ 300 + 60 * (d + 1); omega⟩ (c_recv zcl_7 tb32) (by rw [← eb32]; rfl) (Nat.le_of_ble_eq_true rfl) dX7_part_15 hczq33 ht q921
      · rw [zq33] at hf hMq33
        replace hf := telR hf
        refine t_callV [] [] _ hMq33 ⟨q927, q929, qs25, q146, q930⟩ dv7_deeper rfl ⟨by show 8 + 1 ≤ 20 + (d + 1); omega, by show 8 + (1 + 11) + 166 ≤ 300 + 60 * (d + 1); omega⟩ (c_recv zcl_7 tb32) (by rw [← eb32]; rfl) (Nat.le_of_ble_eq_true rfl) dX7_part_15 hczq33 ?_
        refine j_aload_n dX7_part_18 0 rfl ?_
        obtain ⟨b36, hb36, hf⟩ := ob hf
        obtain ⟨eb36, tb36⟩ := ztg_s hb36
        obtain ⟨q37, kq37, mq37, k_q37, m_q37, hq37, hf, hkq37, hmq37⟩ := bdU_s hf
        obtain ⟨hczq37, hcs⟩ := hcs_step hcs hkq37 hmq37
        have hMq37 := hrc.2.2 (some b36) q33.2 q37 kq37 mq37 hq37
        rcases zq37 : q37.1 with e38 | x39
        · rw [zq37] at hf hMq37
          replace hf := telL hf
          obtain ⟨ht, hr⟩ := xth_s hf
          rw [hr]
          exact x_callV [] [] _ hMq37 ⟨q918, q920, qs23, q146, q921⟩ dv7_part rfl ⟨by show 20 + d + 1 ≤ 20 + (d + 1); omega, by show 8 + (2 + 11) + (300 + 60 * d) ≤ 300 + 60 * (d + 1); omega⟩ (c_recv zcl_7 tb36) (by rw [← eb36]; rfl) (Nat.le_of_ble_eq_true rfl) dX7_part_19 hczq37 ht q921
        · rw [zq37] at hf hMq37
          replace hf := telR hf
          refine t_callV [] [] _ hMq37 ⟨q918, q920, qs23, q146, q921⟩ dv7_part rfl ⟨by show 20 + d + 1 ≤ 20 + (d + 1); omega, by show 8 + (2 + 11) + (300 + 60 * d) ≤ 300 + 60 * (d + 1); omega⟩ (c_recv zcl_7 tb36) (by rw [← eb36]; rfl) (Nat.le_of_ble_eq_true rfl) dX7_part_19 hczq37 ?_
          refine j_astore_n dX7_part_22 [(1, pR x39), (0, pR v0)] (Nat.le_of_ble_eq_true rfl) rfl ?_
          refine j_aload_n dX7_part_23 1 rfl ?_
          refine j_dup dX7_part_24 rfl ?_
          obtain ⟨x40, hx40, hf⟩ := ob hf
          refine c_geti (ci := 7) (k := 7) hx40 zcl_7 (Nat.le_of_ble_eq_true rfl) zf_X7_125 fk_287 dX7_part_25 ?_
          refine j_iconst dX7_part_28 ?_
          refine j_isub dX7_part_29 ?_
          obtain ⟨u41, hu41, hf⟩ := ob hf
          refine c_puti (ci := 7) (k := 7) hu41 zcl_7 (Nat.le_of_ble_eq_true rfl) zf_X7_125 fk_287 rfl fits_I dX7_part_30 ?_
          obtain ⟨q42, kq42, mq42, k_q42, m_q42, hq42, hf, hkq42, hmq42⟩ := bdU_s hf
          obtain ⟨hczq42, hcs⟩ := hcs_step hcs hkq42 hmq42
          refine c_new (ci := 11) hq42 zcl_11 zmk_11 q931 dX7_part_33 hczq42 ?_
          refine j_dup dX7_part_36 rfl ?_
          refine j_aload_n dX7_part_37 0 rfl ?_
          obtain ⟨u43, hu43, hf⟩ := ob hf
          refine c_callI [pR x39] [pR (some q42.1)] _ (t11_init (some q42.1) x39 q42.2 hu43) ⟨q933, q934, q154, q935, rfl, rfl⟩ dv11_init rfl ⟨by show 2 + 1 ≤ 20 + (d + 1); omega, by show 8 + (2 + 11) + 40 ≤ 300 + 60 * (d + 1); omega⟩ rfl (Nat.le_of_ble_eq_true rfl) dX7_part_38 (hcs_ret (x := ()) (r := ()) hcs) ?_
          replace hf := retU hf
          subst hf
          exact t_ofret (j_areturn (bC_mv G A) (hcs_ret (x := ()) (r := ()) hcs) rfl (Or.inl ⟨_, rfl⟩) dX7_part_41)
theorem t15_init {G : CG} {A : Nat → Prop} {l : Launch} {r : Sg} {c0 n0 : Nat} (v0 : Option Nat) (v1 : Int) (u : Sg) (hf : f15_init G v0 v1 u = some (r, c0, n0)) : JM kC (bC G A) A l yX15_init D15_init [pR v0, pI v1] u none r c0 n0 := by
  refine j_met (lv0 := [(0, pR v0), (1, pI v1)]) ⟨pl_X15, rfl, rfl, (Nat.le_of_ble_eq_true rfl), rfl⟩ ?_
  have hcs : 0 + c0 ≤ c0 ∧ 0 + n0 ≤ n0 := ⟨by omega, by omega⟩
  unfold f15_init at hf
  refine j_aload_n dX15_init_0 0 rfl ?_
  obtain ⟨b1, eb1, hg⟩ := ob hf
  clear hf
  subst eb1
  have hf := hg
  clear hg
  obtain ⟨u2, hu2, hf⟩ := ob hf
  refine c_callIN [] [] _ (t10_init (some b1) u hu2) ⟨q1015, q937, q153, q938, rfl, rfl⟩ dv10_init rfl ⟨(Nat.le_of_ble_eq_true rfl), (Nat.le_of_ble_eq_true rfl)⟩ rfl (Nat.le_of_ble_eq_true rfl) dX15_init_1 (hcs_ret (x := ()) (r := ()) hcs) ?_
  refine j_aload_n dX15_init_4 0 rfl ?_
  obtain ⟨q3, kq3, mq3, k_q3, m_q3, hq3, hf, hkq3, hmq3⟩ := bdU_s hf
  obtain ⟨hczq3, hcs⟩ := hcs_step hcs hkq3 hmq3
  refine c_new (ci := 5) hq3 zcl_5 zmk_5 q1016 dX15_init_5 hczq3 ?_
  refine j_dup dX15_init_8 rfl ?_
  obtain ⟨u4, hu4, hf⟩ := ob hf
  refine c_callI [] [pR (some q3.1), pR (some b1)] _ (tJ2_init (some q3.1) q3.2 hu4) ⟨q1017, q211, q131, q212, rfl, rfl⟩ dvJ2_init rfl ⟨(Nat.le_of_ble_eq_true rfl), (Nat.le_of_ble_eq_true rfl)⟩ rfl (Nat.le_of_ble_eq_true rfl) dX15_init_9 (hcs_ret (x := ()) (r := ()) hcs) ?_
  obtain ⟨u5, hu5, hf⟩ := ob hf
  refine c_putaF (ci := 15) (k := 1) hu5 zcl_15 (Nat.le_of_ble_eq_true rfl) zf_X15_10 fk_601 rfl rfl rfl fits_O dX15_init_12 ?_
  refine j_aload_n dX15_init_15 0 rfl ?_
  refine j_iload_n dX15_init_16 1 rfl ?_
  rcases Decidable.em (w32 v1 = 0 ∨ w32 v1 = 1) with h7 | h7
  · replace hf := it h7 hf
    obtain ⟨u6, hu6, hf⟩ := ob hf
    refine c_putiF (ci := 15) (k := 0) hu6 zcl_15 (Nat.le_of_ble_eq_true rfl) zf_X15_16 fk_600 rfl rfl rfl (fits_Z h7) dX15_init_17 ?_
    replace hf := retU hf
    subst hf
    exact j_return (bC_mv G A) (hcs_ret (x := ()) (r := ()) hcs) rfl dX15_init_20
  · exact onn (ie h7 hf)
theorem t7_many_b100 {G : CG} {A : Nat → Prop} {l : Launch} {a : List PV} {mc ms : Nat} (hfl : l.stackTraces = false) {d : Nat} (rc : RC7) (hrc : HR7 G A l d rc) {r : (Nat ⊕ (Option Nat)) × Sg} {Kf : (Nat × Sg) ⊕ (Sg) → Option (((Nat ⊕ (Option Nat)) × Sg) × Nat × Nat)} {v0 : Option Nat} {v1 : Int} {v3 : Int} {v5 : Option Nat} (kh : Sg → Option (((Nat × Sg) ⊕ (Sg)) × Nat × Nat)) (hkh : ∀ (zu : Sg) {ce sl c0 n0 : Nat}, ce + c0 ≤ mc ∧ sl + n0 ≤ ms → (bdU (kh zu) Kf = some (r, c0, n0)) → JW kC (bC G A) A l (D7_many (d + 1)) a (tQQ yX7_many G A a (omR r.1) r.2 mc ms) mc ms zu ce sl 63 [(0, pR v0), (1, pI v1), (3, pL v3), (5, pR v5)] []) (hX : ∀ (e : Nat × Sg) {c0 n0 : Nat}, Kf (.inl e) = some (r, c0, n0) → zT e.2 e.1 = 9 ∧ r = (.inl e.1, e.2)) (hK0 : ∀ (q : Sg) {ce sl c0 n0 : Nat}, ce + c0 ≤ mc ∧ sl + n0 ≤ ms → Kf (.inr q) = some (r, c0, n0) → JW kC (bC G A) A l (D7_many (d + 1)) a (tQQ yX7_many G A a (omR r.1) r.2 mc ms) mc ms q ce sl 109 [(5, pR v5)] []) (s0 : Option Nat) (s1 : Option Nat) (u : Sg) {ce sl c0 n0 : Nat} (hcs : ce + c0 ≤ mc ∧ sl + n0 ≤ ms) (hf : bdU (f7_many_b100 G rc kh v0 v1 v3 v5 s0 s1 u) Kf = some (r, c0, n0)) : JW kC (bC G A) A l (D7_many (d + 1)) a (tQQ yX7_many G A a (omR r.1) r.2 mc ms) mc ms u ce sl 100 [(0, pR v0), (1, pI v1), (3, pL v3), (5, pR v5)] [pR s1, pR s0] := by
  unfold f7_many_b100 at hf
  obtain ⟨b1, hb1, hf⟩ := obK hf
  obtain ⟨eb1, tb1⟩ := ztg_s hb1
  replace hf := bdU_a hf
  obtain ⟨q2, kq2, mq2, k_q2, m_q2, hq2, hf, hkq2, hmq2⟩ := bdU_s hf
  obtain ⟨hczq2, hcs⟩ := hcs_step hcs hkq2 hmq2
  refine a_Fr (x := ix_2) [pR s1] [] (tJ2_add (some b1) s1 u hq2) ⟨q904, q325, q327, q131, q329⟩ iF_2 df_2 rfl ⟨by show 6 + 1 ≤ 20 + (d + 1); omega, by show 8 + (2 + 11) + 170 ≤ 300 + 60 * (d + 1); omega⟩ zcl_5 rfl tb1 (by rw [← eb1]; rfl) (Nat.le_of_ble_eq_true rfl) dX7_many_100 hczq2 ?_
  refine j_pop dX7_many_105 rfl ?_
  refine j_goto 63 dX7_many_106 (by decide) ?_
  exact j_sub [0, 1, 2, 3] _ rfl (hkh q2.2 hcs hf)
theorem t7_many_l63 {G : CG} {A : Nat → Prop} {l : Launch} {a : List PV} {mc ms : Nat} (hfl : l.stackTraces = false) {d : Nat} (rc : RC7) (hrc : HR7 G A l d rc) {r : (Nat ⊕ (Option Nat)) × Sg} {Kf : (Nat × Sg) ⊕ (Sg) → Option (((Nat ⊕ (Option Nat)) × Sg) × Nat × Nat)} (v0 : Option Nat) (v1 : Int) (v3 : Int) (v5 : Option Nat) (hX : ∀ (e : Nat × Sg) {c0 n0 : Nat}, Kf (.inl e) = some (r, c0, n0) → zT e.2 e.1 = 9 ∧ r = (.inl e.1, e.2)) (hK0 : ∀ (q : Sg) {ce sl c0 n0 : Nat}, ce + c0 ≤ mc ∧ sl + n0 ≤ ms → Kf (.inr q) = some (r, c0, n0) → JW kC (bC G A) A l (D7_many (d + 1)) a (tQQ yX7_many G A a (omR r.1) r.2 mc ms) mc ms q ce sl 109 [(5, pR v5)] []) : ∀ (n : Nat) (u : Sg) {ce sl c0 n0 : Nat}, ce + c0 ≤ mc ∧ sl + n0 ≤ ms → (bdU (f7_many_l63 G rc v0 v1 v3 v5 n u) Kf = some (r, c0, n0)) → JW kC (bC G A) A l (D7_many (d + 1)) a (tQQ yX7_many G A a (omR r.1) r.2 mc ms) mc ms u ce sl 63 [(0, pR v0), (1, pI v1), (3, pL v3), (5, pR v5)] [] := by
  intro n
  induction n with
  | zero => intro u ce sl c0 n0 hcs hf; exact onK hf
  | succ n ih =>
    intro u ce sl c0 n0 hcs hf
    unfold f7_many_l63 at hf
    refine j_aload_n dX7_many_63 0 rfl ?_
    refine j_lload_n dX7_many_64 2 rfl ?_
    obtain ⟨b1, hb1, hf⟩ := obK hf
    obtain ⟨eb1, tb1⟩ := ztg_s hb1
    obtain ⟨x2, hx2, hf⟩ := obK hf
    refine a_Vr [pL v3] [] (t7_is (some b1) v3 u hx2) ⟨q787, q789, qs12, q146, q790⟩ dv7_is rfl ⟨by show 0 + 1 ≤ 20 + (d + 1); omega, by show 8 + (3 + 11) + 0 ≤ 300 + 60 * (d + 1); omega⟩ (c_recv zcl_7 tb1) (by rw [← eb1]; rfl) (Nat.le_of_ble_eq_true rfl) dX7_many_65 (hcs_ret (x := ()) (r := ()) hcs) ?_
    refine j_if_eq (w32 x2) rfl 109 dX7_many_68 (by decide) (fun h21 => ?_) (fun h21 => ?_)
    · replace hf := itK h21 hf
      exact j_sub [3] _ rfl (hK0 u hcs (bdU_0 hf))
    · replace hf := ieK h21 hf
      refine j_aload_n dX7_many_71 0 rfl ?_
      obtain ⟨b3, hb3, hf⟩ := obK hf
      obtain ⟨eb3, tb3⟩ := ztg_s hb3
      replace hf := bdU_a hf
      obtain ⟨q4, kq4, mq4, k_q4, m_q4, hq4, hf, hkq4, hmq4⟩ := bdU_s hf
      obtain ⟨hczq4, hcs⟩ := hcs_step hcs hkq4 hmq4
      have hMq4 := t7_node (A := A) hfl (some b3) u hq4
      rcases zq4 : q4.1 with e5 | x6
      · rw [zq4] at hf hMq4
        replace hf := telLK hf
        obtain ⟨ht, hr⟩ := hX _ (bdU_0 hf)
        rw [hr]
        exact x_callV [] [] _ hMq4 ⟨q923, q925, qs24, q146, q926⟩ dv7_node rfl ⟨by show 6 + 1 ≤ 20 + (d + 1); omega, by show 8 + (1 + 11) + 122 ≤ 300 + 60 * (d + 1); omega⟩ (c_recv zcl_7 tb3) (by rw [← eb3]; rfl) (Nat.le_of_ble_eq_true rfl) dX7_many_72 hczq4 ht q917
      · rw [zq4] at hf hMq4
        replace hf := telRK hf
        refine t_callV [] [] _ hMq4 ⟨q923, q925, qs24, q146, q926⟩ dv7_node rfl ⟨by show 6 + 1 ≤ 20 + (d + 1); omega, by show 8 + (1 + 11) + 122 ≤ 300 + 60 * (d + 1); omega⟩ (c_recv zcl_7 tb3) (by rw [← eb3]; rfl) (Nat.le_of_ble_eq_true rfl) dX7_many_72 hczq4 ?_
        refine j_aload_n dX7_many_75 0 rfl ?_
        obtain ⟨b7, hb7, hf⟩ := obK hf
        obtain ⟨eb7, tb7⟩ := ztg_s hb7
        replace hf := bdU_a hf
        obtain ⟨q8, kq8, mq8, k_q8, m_q8, hq8, hf, hkq8, hmq8⟩ := bdU_s hf
        obtain ⟨hczq8, hcs⟩ := hcs_step hcs hkq8 hmq8
        have hMq8 := t7_next (A := A) hfl (some b7) q4.2 hq8
        rcases zq8 : q8.1 with e9 | x10
        · rw [zq8] at hf hMq8
          replace hf := telLK hf
          obtain ⟨ht, hr⟩ := hX _ (bdU_0 hf)
          rw [hr]
          exact x_callV [] [] _ hMq8 ⟨q647, q649, qs3, q146, q650⟩ dv7_next rfl ⟨by show 7 + 1 ≤ 20 + (d + 1); omega, by show 8 + (2 + 11) + 145 ≤ 300 + 60 * (d + 1); omega⟩ (c_recv zcl_7 tb7) (by rw [← eb7]; rfl) (Nat.le_of_ble_eq_true rfl) dX7_many_76 hczq8 ht q917
        · rw [zq8] at hf hMq8
          replace hf := telRK hf
          refine t_callV [] [] _ hMq8 ⟨q647, q649, qs3, q146, q650⟩ dv7_next rfl ⟨by show 7 + 1 ≤ 20 + (d + 1); omega, by show 8 + (2 + 11) + 145 ≤ 300 + 60 * (d + 1); omega⟩ (c_recv zcl_7 tb7) (by rw [← eb7]; rfl) (Nat.le_of_ble_eq_true rfl) dX7_many_76 hczq8 ?_
          refine j_aload dX7_many_79 3 rfl ?_
          obtain ⟨x11, hx11, hf⟩ := obK hf
          refine c_getaN (ci := 15) (k := 1) hx11 zcl_15 (Nat.le_of_ble_eq_true rfl) zf_X7_107 fk_601 dX7_many_81 ?_
          refine j_iload_n dX7_many_84 1 rfl ?_
          refine j_if_eq (w32 v1) rfl 96 dX7_many_85 (by decide) (fun h20 => ?_) (fun h20 => ?_)
          · replace hf := itK h20 hf
            refine j_aload_n dX7_many_96 0 rfl ?_
            obtain ⟨b12, hb12, hf⟩ := obK hf
            obtain ⟨eb12, tb12⟩ := ztg_s hb12
            replace hf := bdU_a hf
            obtain ⟨q13, kq13, mq13, k_q13, m_q13, hq13, hf, hkq13, hmq13⟩ := bdU_s hf
            obtain ⟨hczq13, hcs⟩ := hcs_step hcs hkq13 hmq13
            have hMq13 := hrc.2.2 (some b12) q8.2 q13 kq13 mq13 hq13
            rcases zq13 : q13.1 with e14 | x15
            · rw [zq13] at hf hMq13
              replace hf := telLK hf
              obtain ⟨ht, hr⟩ := hX _ (bdU_0 hf)
              rw [hr]
              exact x_callV [] [pR x11] _ hMq13 ⟨q918, q920, qs23, q146, q921⟩ dv7_part rfl ⟨by show 20 + d + 1 ≤ 20 + (d + 1); omega, by show 8 + (2 + 11) + (300 + 60 * d) ≤ 300 + 60 * (d + 1); omega⟩ (c_recv zcl_7 tb12) (by rw [← eb12]; rfl) (Nat.le_of_ble_eq_true rfl) dX7_many_97 hczq13 ht q917
            · rw [zq13] at hf hMq13
              replace hf := telRK hf
              refine t_callV [] [pR x11] _ hMq13 ⟨q918, q920, qs23, q146, q921⟩ dv7_part rfl ⟨by show 20 + d + 1 ≤ 20 + (d + 1); omega, by show 8 + (2 + 11) + (300 + 60 * d) ≤ 300 + 60 * (d + 1); omega⟩ (c_recv zcl_7 tb12) (by rw [← eb12]; rfl) (Nat.le_of_ble_eq_true rfl) dX7_many_97 hczq13 ?_
              exact j_sub [0, 1, 2, 3] _ rfl (t7_many_b100 hfl rc hrc (f7_many_l63 G rc v0 v1 v3 v5 n) ih hX hK0 x11 x15 q13.2 hcs hf)
          · replace hf := ieK h20 hf
            refine j_aload_n dX7_many_88 0 rfl ?_
            refine j_iconst dX7_many_89 ?_
            obtain ⟨b16, hb16, hf⟩ := obK hf
            obtain ⟨eb16, tb16⟩ := ztg_s hb16
            replace hf := bdU_a hf
            obtain ⟨q17, kq17, mq17, k_q17, m_q17, hq17, hf, hkq17, hmq17⟩ := bdU_s hf
            obtain ⟨hczq17, hcs⟩ := hcs_step hcs hkq17 hmq17
            have hMq17 := hrc.2.1 (some b16) 0 q8.2 q17 kq17 mq17 hq17
            rcases zq17 : q17.1 with e18 | x19
            · rw [zq17] at hf hMq17
              replace hf := telLK hf
              obtain ⟨ht, hr⟩ := hX _ (bdU_0 hf)
              rw [hr]
              exact x_callV [pI 0] [pR x11] _ hMq17 ⟨q914, q916, qs22, q146, q917⟩ dv7_many rfl ⟨by show 20 + d + 1 ≤ 20 + (d + 1); omega, by show 8 + (6 + 11) + (300 + 60 * d) ≤ 300 + 60 * (d + 1); omega⟩ (c_recv zcl_7 tb16) (by rw [← eb16]; rfl) (Nat.le_of_ble_eq_true rfl) dX7_many_90 hczq17 ht q917
            · rw [zq17] at hf hMq17
              replace hf := telRK hf
              refine t_callV [pI 0] [pR x11] _ hMq17 ⟨q914, q916, qs22, q146, q917⟩ dv7_many rfl ⟨by show 20 + d + 1 ≤ 20 + (d + 1); omega, by show 8 + (6 + 11) + (300 + 60 * d) ≤ 300 + 60 * (d + 1); omega⟩ (c_recv zcl_7 tb16) (by rw [← eb16]; rfl) (Nat.le_of_ble_eq_true rfl) dX7_many_90 hczq17 ?_
              refine j_goto 100 dX7_many_93 (by decide) ?_
              exact j_sub [0, 1, 2, 3] _ rfl (t7_many_b100 hfl rc hrc (f7_many_l63 G rc v0 v1 v3 v5 n) ih hX hK0 x11 x19 q17.2 hcs hf)
theorem t7_many_b30 {G : CG} {A : Nat → Prop} {l : Launch} {a : List PV} {mc ms ce sl : Nat} (hfl : l.stackTraces = false) {d : Nat} (rc : RC7) (hrc : HR7 G A l d rc) {r : (Nat ⊕ (Option Nat)) × Sg} {c0 n0 : Nat} (v0 : Option Nat) (v1 : Int) (v2 : Option Nat) (s0 : Int) (u : Sg) (hcs : ce + c0 ≤ mc ∧ sl + n0 ≤ ms) (hf : f7_many_b30 G rc v0 v1 v2 s0 u = some (r, c0, n0)) : JW kC (bC G A) A l (D7_many (d + 1)) a (tQQ yX7_many G A a (omR r.1) r.2 mc ms) mc ms u ce sl 30 [(0, pR v0), (1, pI v1), (2, pR v2)] [pL s0] := by
  unfold f7_many_b30 at hf
  refine j_lstore_n dX7_many_30 [(3, pL s0), (0, pR v0), (1, pI v1), (2, pR v2)] (Nat.le_of_ble_eq_true rfl) rfl ?_
  refine j_aload_n dX7_many_31 1 rfl ?_
  refine j_lload_n dX7_many_32 0 rfl ?_
  obtain ⟨b1, hb1, hf⟩ := ob hf
  obtain ⟨eb1, tb1⟩ := ztg_s hb1
  obtain ⟨x2, hx2, hf⟩ := ob hf
  refine a_Vr [pL s0] [] (t7_is (some b1) s0 u hx2) ⟨q787, q789, qs12, q146, q790⟩ dv7_is rfl ⟨by show 0 + 1 ≤ 20 + (d + 1); omega, by show 8 + (3 + 11) + 0 ≤ 300 + 60 * (d + 1); omega⟩ (c_recv zcl_7 tb1) (by rw [← eb1]; rfl) (Nat.le_of_ble_eq_true rfl) dX7_many_33 (hcs_ret (x := ()) (r := ()) hcs) ?_
  refine j_if_ne (w32 x2) rfl 41 dX7_many_36 (by decide) (fun h10 => ?_) (fun h10 => ?_)
  · replace hf := ie h10 hf
    obtain ⟨q3, kq3, mq3, k_q3, m_q3, hq3, hf, hkq3, hmq3⟩ := bdU_s hf
    obtain ⟨hczq3, hcs⟩ := hcs_step hcs hkq3 hmq3
    refine c_new (ci := 15) hq3 zcl_15 zmk_15 q1010 dX7_many_41 hczq3 ?_
    refine j_dup dX7_many_44 rfl ?_
    refine j_iload_n dX7_many_45 2 rfl ?_
    obtain ⟨q4, kq4, mq4, k_q4, m_q4, hq4, hf, hkq4, hmq4⟩ := bdU_s hf
    obtain ⟨hczq4, hcs⟩ := hcs_step hcs hkq4 hmq4
    refine c_callI [pI v1] [pR (some q3.1)] _ (t15_init (some q3.1) v1 q3.2 hq4) ⟨q1012, q1013, q160, q1014, rfl, rfl⟩ dv15_init rfl ⟨by show 4 + 1 ≤ 20 + (d + 1); omega, by show 8 + (2 + 11) + 80 ≤ 300 + 60 * (d + 1); omega⟩ rfl (Nat.le_of_ble_eq_true rfl) dX7_many_46 hczq4 ?_
    refine j_astore dX7_many_49 [(5, pR (some q3.1)), (3, pL s0), (0, pR v0), (1, pI v1), (2, pR v2)] (Nat.le_of_ble_eq_true rfl) rfl ?_
    refine j_aload dX7_many_51 0 rfl ?_
    obtain ⟨x5, hx5, hf⟩ := ob hf
    refine c_getaN (ci := 15) (k := 1) hx5 zcl_15 (Nat.le_of_ble_eq_true rfl) zf_X7_107 fk_601 dX7_many_53 ?_
    refine j_aload_n dX7_many_56 4 rfl ?_
    obtain ⟨b6, hb6, hf⟩ := ob hf
    obtain ⟨eb6, tb6⟩ := ztg_s hb6
    obtain ⟨q7, kq7, mq7, k_q7, m_q7, hq7, hf, hkq7, hmq7⟩ := bdU_s hf
    obtain ⟨hczq7, hcs⟩ := hcs_step hcs hkq7 hmq7
    refine a_Fr (x := ix_2) [pR v2] [] (tJ2_add (some b6) v2 q4 hq7) ⟨q904, q325, q327, q131, q329⟩ iF_2 df_2 rfl ⟨by show 6 + 1 ≤ 20 + (d + 1); omega, by show 8 + (2 + 11) + 170 ≤ 300 + 60 * (d + 1); omega⟩ zcl_5 rfl tb6 (by rw [← eb6]; rfl) (Nat.le_of_ble_eq_true rfl) dX7_many_57 hczq7 ?_
    refine j_pop dX7_many_62 rfl ?_
    refine j_sub [2, 3, 1, 0] _ rfl (t7_many_l63 hfl rc hrc v0 v1 s0 (some q3.1) ?_ ?_ NN q7.2 hcs hf)
    · intro e9 c0 n0 hf
      simp only [Sum.elim_inl] at hf
      exact xth_s hf
    · intro q8 ceq8 slq8 cq8 nq8 hcs hf
      simp only [Sum.elim_inl, Sum.elim_inr] at hf
      refine j_aload dX7_many_109 0 rfl ?_
      replace hf := retU hf
      subst hf
      exact t_ofret (j_areturn (bC_mv G A) (hcs_ret (x := ()) (r := ()) hcs) rfl (Or.inl ⟨_, rfl⟩) dX7_many_111)
  · replace hf := it h10 hf
    refine j_aload_n dX7_many_39 3 rfl ?_
    replace hf := retU hf
    subst hf
    exact t_ofret (j_areturn (bC_mv G A) (hcs_ret (x := ()) (r := ()) hcs) rfl (Or.inl ⟨_, rfl⟩) dX7_many_40)
theorem t7_many_b16 {G : CG} {A : Nat → Prop} {l : Launch} {a : List PV} {mc ms ce sl : Nat} (hfl : l.stackTraces = false) {d : Nat} (rc : RC7) (hrc : HR7 G A l d rc) {r : (Nat ⊕ (Option Nat)) × Sg} {c0 n0 : Nat} (v0 : Option Nat) (v1 : Int) (s0 : Option Nat) (u : Sg) (hcs : ce + c0 ≤ mc ∧ sl + n0 ≤ ms) (hf : f7_many_b16 G rc v0 v1 s0 u = some (r, c0, n0)) : JW kC (bC G A) A l (D7_many (d + 1)) a (tQQ yX7_many G A a (omR r.1) r.2 mc ms) mc ms u ce sl 16 [(0, pR v0), (1, pI v1)] [pR s0] := by
  unfold f7_many_b16 at hf
  refine j_astore_n dX7_many_16 [(2, pR s0), (0, pR v0), (1, pI v1)] (Nat.le_of_ble_eq_true rfl) rfl ?_
  refine j_iload_n dX7_many_17 2 rfl ?_
  refine j_if_eq (w32 v1) rfl 27 dX7_many_18 (by decide) (fun h1 => ?_) (fun h1 => ?_)
  · replace hf := it h1 hf
    refine j_ldc2 (z := 6385252) q1009 (by decide) dX7_many_27 ?_
    exact j_sub [1, 2, 0] _ rfl (t7_many_b30 hfl rc hrc v0 v1 s0 6385252 u hcs hf)
  · replace hf := ie h1 hf
    refine j_ldc2 (z := 28530) q1008 (by decide) dX7_many_21 ?_
    refine j_goto 30 dX7_many_24 (by decide) ?_
    exact j_sub [1, 2, 0] _ rfl (t7_many_b30 hfl rc hrc v0 v1 s0 28530 u hcs hf)
theorem t7_many {G : CG} {A : Nat → Prop} {l : Launch} (hfl : l.stackTraces = false) {d : Nat} (rc : RC7) (hrc : HR7 G A l d rc) {r : (Nat ⊕ (Option Nat)) × Sg} {c0 n0 : Nat} (v0 : Option Nat) (v1 : Int) (u : Sg) (hf : f7_many G rc v0 v1 u = some (r, c0, n0)) : JMT G A l yX7_many (D7_many (d + 1)) [pR v0, pI v1] u (omR r.1) r.2 c0 n0 := by
  refine t_met (lv0 := [(0, pR v0), (1, pI v1)]) ⟨pl_X7, rfl, rfl, (Nat.le_of_ble_eq_true rfl), rfl⟩ ?_
  have hcs : 0 + c0 ≤ c0 ∧ 0 + n0 ≤ n0 := ⟨by omega, by omega⟩
  unfold f7_many at hf
  refine j_iload_n dX7_many_0 1 rfl ?_
  refine j_if_eq (w32 v1) rfl 12 dX7_many_1 (by decide) (fun h9 => ?_) (fun h9 => ?_)
  · replace hf := it h9 hf
    refine j_aload_n dX7_many_12 0 rfl ?_
    obtain ⟨b1, hb1, hf⟩ := ob hf
    obtain ⟨eb1, tb1⟩ := ztg_s hb1
    obtain ⟨q2, kq2, mq2, k_q2, m_q2, hq2, hf, hkq2, hmq2⟩ := bdU_s hf
    obtain ⟨hczq2, hcs⟩ := hcs_step hcs hkq2 hmq2
    have hMq2 := hrc.2.2 (some b1) u q2 kq2 mq2 hq2
    rcases zq2 : q2.1 with e3 | x4
    · rw [zq2] at hf hMq2
      replace hf := telL hf
      obtain ⟨ht, hr⟩ := xth_s hf
      rw [hr]
      exact x_callV [] [] _ hMq2 ⟨q918, q920, qs23, q146, q921⟩ dv7_part rfl ⟨by show 20 + d + 1 ≤ 20 + (d + 1); omega, by show 8 + (2 + 11) + (300 + 60 * d) ≤ 300 + 60 * (d + 1); omega⟩ (c_recv zcl_7 tb1) (by rw [← eb1]; rfl) (Nat.le_of_ble_eq_true rfl) dX7_many_13 hczq2 ht q917
    · rw [zq2] at hf hMq2
      replace hf := telR hf
      refine t_callV [] [] _ hMq2 ⟨q918, q920, qs23, q146, q921⟩ dv7_part rfl ⟨by show 20 + d + 1 ≤ 20 + (d + 1); omega, by show 8 + (2 + 11) + (300 + 60 * d) ≤ 300 + 60 * (d + 1); omega⟩ (c_recv zcl_7 tb1) (by rw [← eb1]; rfl) (Nat.le_of_ble_eq_true rfl) dX7_many_13 hczq2 ?_
      exact j_sub [0, 1] _ rfl (t7_many_b16 hfl rc hrc v0 v1 x4 q2.2 hcs hf)
  · replace hf := ie h9 hf
    refine j_aload_n dX7_many_4 0 rfl ?_
    refine j_iconst dX7_many_5 ?_
    obtain ⟨b5, hb5, hf⟩ := ob hf
    obtain ⟨eb5, tb5⟩ := ztg_s hb5
    obtain ⟨q6, kq6, mq6, k_q6, m_q6, hq6, hf, hkq6, hmq6⟩ := bdU_s hf
    obtain ⟨hczq6, hcs⟩ := hcs_step hcs hkq6 hmq6
    have hMq6 := hrc.2.1 (some b5) 0 u q6 kq6 mq6 hq6
    rcases zq6 : q6.1 with e7 | x8
    · rw [zq6] at hf hMq6
      replace hf := telL hf
      obtain ⟨ht, hr⟩ := xth_s hf
      rw [hr]
      exact x_callV [pI 0] [] _ hMq6 ⟨q914, q916, qs22, q146, q917⟩ dv7_many rfl ⟨by show 20 + d + 1 ≤ 20 + (d + 1); omega, by show 8 + (6 + 11) + (300 + 60 * d) ≤ 300 + 60 * (d + 1); omega⟩ (c_recv zcl_7 tb5) (by rw [← eb5]; rfl) (Nat.le_of_ble_eq_true rfl) dX7_many_6 hczq6 ht q917
    · rw [zq6] at hf hMq6
      replace hf := telR hf
      refine t_callV [pI 0] [] _ hMq6 ⟨q914, q916, qs22, q146, q917⟩ dv7_many rfl ⟨by show 20 + d + 1 ≤ 20 + (d + 1); omega, by show 8 + (6 + 11) + (300 + 60 * d) ≤ 300 + 60 * (d + 1); omega⟩ (c_recv zcl_7 tb5) (by rw [← eb5]; rfl) (Nat.le_of_ble_eq_true rfl) dX7_many_6 hczq6 ?_
      refine j_goto 16 dX7_many_9 (by decide) ?_
      exact j_sub [0, 1] _ rfl (t7_many_b16 hfl rc hrc v0 v1 x8 q6.2 hcs hf)
theorem t7_cond {G : CG} {A : Nat → Prop} {l : Launch} (hfl : l.stackTraces = false) {d : Nat} (rc : RC7) (hrc : HR7 G A l d rc) {r : (Nat ⊕ (Option Nat)) × Sg} {c0 n0 : Nat} (v0 : Option Nat) (u : Sg) (hf : f7_cond G rc v0 u = some (r, c0, n0)) : JMT G A l yX7_cond (D7_cond (d + 1)) [pR v0] u (omR r.1) r.2 c0 n0 := by
  refine t_met (lv0 := [(0, pR v0)]) ⟨pl_X7, rfl, rfl, (Nat.le_of_ble_eq_true rfl), rfl⟩ ?_
  have hcs : 0 + c0 ≤ c0 ∧ 0 + n0 ≤ n0 := ⟨by omega, by omega⟩
  unfold f7_cond at hf
  refine j_aload_n dX7_cond_0 0 rfl ?_
  refine j_iconst dX7_cond_1 ?_
  obtain ⟨b1, hb1, hf⟩ := ob hf
  obtain ⟨eb1, tb1⟩ := ztg_s hb1
  obtain ⟨q2, kq2, mq2, k_q2, m_q2, hq2, hf, hkq2, hmq2⟩ := bdU_s hf
  obtain ⟨hczq2, hcs⟩ := hcs_step hcs hkq2 hmq2
  have hMq2 := hrc.2.1 (some b1) 1 u q2 kq2 mq2 hq2
  rcases zq2 : q2.1 with e3 | x4
  · rw [zq2] at hf hMq2
    replace hf := telL hf
    obtain ⟨ht, hr⟩ := xth_s hf
    rw [hr]
    exact x_callV [pI 1] [] _ hMq2 ⟨q914, q916, qs22, q146, q917⟩ dv7_many rfl ⟨by show 20 + d + 1 ≤ 20 + (d + 1); omega, by show 8 + (6 + 11) + (300 + 60 * d) ≤ 300 + 60 * (d + 1); omega⟩ (c_recv zcl_7 tb1) (by rw [← eb1]; rfl) (Nat.le_of_ble_eq_true rfl) dX7_cond_2 hczq2 ht q913
  · rw [zq2] at hf hMq2
    replace hf := telR hf
    refine t_callV [pI 1] [] _ hMq2 ⟨q914, q916, qs22, q146, q917⟩ dv7_many rfl ⟨by show 20 + d + 1 ≤ 20 + (d + 1); omega, by show 8 + (6 + 11) + (300 + 60 * d) ≤ 300 + 60 * (d + 1); omega⟩ (c_recv zcl_7 tb1) (by rw [← eb1]; rfl) (Nat.le_of_ble_eq_true rfl) dX7_cond_2 hczq2 ?_
    replace hf := retU hf
    subst hf
    exact t_ofret (j_areturn (bC_mv G A) (hcs_ret (x := ()) (r := ()) hcs) rfl (Or.inl ⟨_, rfl⟩) dX7_cond_5)
theorem tr_all {G : CG} {A : Nat → Prop} {l : Launch} (hfl : l.stackTraces = false) : ∀ d : Nat, HR7 G A l d (kr G d) := by
  intro d
  induction d with
  | zero => exact ⟨fun _ _ _ _ _ h => (by cases h), fun _ _ _ _ _ _ h => (by cases h), fun _ _ _ _ _ h => (by cases h)⟩
  | succ d ih => exact ⟨fun r u v c n h => t7_cond hfl (kr G d) ih r u h, fun r y u v c n h => t7_many hfl (kr G d) ih r y u h, fun r u v c n h => t7_part hfl (kr G d) ih r u h⟩
theorem t7_clause_b29 {G : CG} {A : Nat → Prop} {l : Launch} {a : List PV} {mc ms ce sl : Nat} (hfl : l.stackTraces = false) {r : (Nat ⊕ (Option Nat)) × Sg} {c0 n0 : Nat} (v0 : Option Nat) (s0 : Int) (u : Sg) (hcs : ce + c0 ≤ mc ∧ sl + n0 ≤ ms) (hf : f7_clause_b29 G v0 s0 u = some (r, c0, n0)) : JW kC (bC G A) A l D7_clause a (tQQ yX7_clause G A a (omR r.1) r.2 mc ms) mc ms u ce sl 29 [(0, pR v0)] [pI s0] := by
  unfold f7_clause_b29 at hf
  refine j_istore_n dX7_clause_29 [(1, pI s0), (0, pR v0)] (Nat.le_of_ble_eq_true rfl) rfl ?_
  refine j_aload_n dX7_clause_30 1 rfl ?_
  obtain ⟨b1, hb1, hf⟩ := ob hf
  obtain ⟨eb1, tb1⟩ := ztg_s hb1
  obtain ⟨q2, kq2, mq2, k_q2, m_q2, hq2, hf, hkq2, hmq2⟩ := bdU_s hf
  obtain ⟨hczq2, hcs⟩ := hcs_step hcs hkq2 hmq2
  have hMq2 := t7_next (A := A) hfl (some b1) u hq2
  rcases zq2 : q2.1 with e3 | x4
  · rw [zq2] at hf hMq2
    replace hf := telL hf
    obtain ⟨ht, hr⟩ := xth_s hf
    rw [hr]
    exact x_callV [] [] _ hMq2 ⟨q647, q649, qs3, q146, q650⟩ dv7_next rfl ⟨(Nat.le_of_ble_eq_true rfl), (Nat.le_of_ble_eq_true rfl)⟩ (c_recv zcl_7 tb1) (by rw [← eb1]; rfl) (Nat.le_of_ble_eq_true rfl) dX7_clause_31 hczq2 ht q1056
  · rw [zq2] at hf hMq2
    replace hf := telR hf
    refine t_callV [] [] _ hMq2 ⟨q647, q649, qs3, q146, q650⟩ dv7_next rfl ⟨(Nat.le_of_ble_eq_true rfl), (Nat.le_of_ble_eq_true rfl)⟩ (c_recv zcl_7 tb1) (by rw [← eb1]; rfl) (Nat.le_of_ble_eq_true rfl) dX7_clause_31 hczq2 ?_
    refine j_aload_n dX7_clause_34 1 rfl ?_
    obtain ⟨x5, hx5, hf⟩ := ob hf
    refine c_geti (ci := 7) (k := 8) hx5 zcl_7 (Nat.le_of_ble_eq_true rfl) zf_X7_84 fk_288 dX7_clause_35 ?_
    refine j_istore_n dX7_clause_38 [(2, pI x5), (1, pI s0), (0, pR v0)] (Nat.le_of_ble_eq_true rfl) rfl ?_
    refine j_aload_n dX7_clause_39 2 rfl ?_
    obtain ⟨b6, hb6, hf⟩ := ob hf
    obtain ⟨eb6, tb6⟩ := ztg_s hb6
    obtain ⟨q7, kq7, mq7, k_q7, m_q7, hq7, hf, hkq7, hmq7⟩ := bdU_s hf
    obtain ⟨hczq7, hcs⟩ := hcs_step hcs hkq7 hmq7
    have hMq7 := (tr_all (A := A) hfl 100).1 (some b6) q2.2 q7 kq7 mq7 hq7
    rcases zq7 : q7.1 with e8 | x9
    · rw [zq7] at hf hMq7
      replace hf := telL hf
      obtain ⟨ht, hr⟩ := xth_s hf
      rw [hr]
      exact x_callV [] [] _ hMq7 ⟨q910, q912, qs21, q146, q913⟩ dv7_cond rfl ⟨(Nat.le_of_ble_eq_true rfl), (Nat.le_of_ble_eq_true rfl)⟩ (c_recv zcl_7 tb6) (by rw [← eb6]; rfl) (Nat.le_of_ble_eq_true rfl) dX7_clause_40 hczq7 ht q1056
    · rw [zq7] at hf hMq7
      replace hf := telR hf
      refine t_callV [] [] _ hMq7 ⟨q910, q912, qs21, q146, q913⟩ dv7_cond rfl ⟨(Nat.le_of_ble_eq_true rfl), (Nat.le_of_ble_eq_true rfl)⟩ (c_recv zcl_7 tb6) (by rw [← eb6]; rfl) (Nat.le_of_ble_eq_true rfl) dX7_clause_40 hczq7 ?_
      refine j_astore_n dX7_clause_43 [(3, pR x9), (2, pI x5), (1, pI s0), (0, pR v0)] (Nat.le_of_ble_eq_true rfl) rfl ?_
      refine j_aload_n dX7_clause_44 3 rfl ?_
      refine j_bipush dX7_clause_45 (by decide) ?_
      obtain ⟨b10, hb10, hf⟩ := ob hf
      obtain ⟨eb10, tb10⟩ := ztg_s hb10
      obtain ⟨q11, kq11, mq11, k_q11, m_q11, hq11, hf, hkq11, hmq11⟩ := bdU_s hf
      obtain ⟨hczq11, hcs⟩ := hcs_step hcs hkq11 hmq11
      have hMq11 := t7_want (A := A) hfl (some b10) 59 q7.2 hq11
      rcases zq11 : q11.1 with e12 | x13
      · rw [zq11] at hf hMq11
        replace hf := telL hf
        obtain ⟨ht, hr⟩ := xth_s hf
        rw [hr]
        exact x_callV [pI 59] [] _ hMq11 ⟨q899, q901, qs19, q146, q902⟩ dv7_want rfl ⟨(Nat.le_of_ble_eq_true rfl), (Nat.le_of_ble_eq_true rfl)⟩ (c_recv zcl_7 tb10) (by rw [← eb10]; rfl) (Nat.le_of_ble_eq_true rfl) dX7_clause_47 hczq11 ht q1056
      · rw [zq11] at hf hMq11
        replace hf := telR hf
        refine t_callV [pI 59] [] _ hMq11 ⟨q899, q901, qs19, q146, q902⟩ dv7_want rfl ⟨(Nat.le_of_ble_eq_true rfl), (Nat.le_of_ble_eq_true rfl)⟩ (c_recv zcl_7 tb10) (by rw [← eb10]; rfl) (Nat.le_of_ble_eq_true rfl) dX7_clause_47 hczq11 ?_
        obtain ⟨q14, kq14, mq14, k_q14, m_q14, hq14, hf, hkq14, hmq14⟩ := bdU_s hf
        obtain ⟨hczq14, hcs⟩ := hcs_step hcs hkq14 hmq14
        refine c_new (ci := 16) hq14 zcl_16 zmk_16 q1057 dX7_clause_50 hczq14 ?_
        refine j_dup dX7_clause_53 rfl ?_
        refine j_iload_n dX7_clause_54 2 rfl ?_
        refine j_aload_n dX7_clause_55 0 rfl ?_
        refine j_aload_n dX7_clause_56 3 rfl ?_
        obtain ⟨x15, hx15, hf⟩ := ob hf
        refine c_geti (ci := 7) (k := 8) hx15 zcl_7 (Nat.le_of_ble_eq_true rfl) zf_X7_84 fk_288 dX7_clause_57 ?_
        refine j_iload_n dX7_clause_60 1 rfl ?_
        refine j_isub dX7_clause_61 ?_
        obtain ⟨u16, hu16, hf⟩ := ob hf
        refine c_callI [pI s0, pR x9, pI (x15 - x5)] [pR (some q14.1)] _ (t16_init (some q14.1) s0 x9 (x15 - x5) q14.2 hu16) ⟨q1059, q1060, q164, q1061, rfl, rfl⟩ dv16_init rfl ⟨(Nat.le_of_ble_eq_true rfl), (Nat.le_of_ble_eq_true rfl)⟩ rfl (Nat.le_of_ble_eq_true rfl) dX7_clause_62 (hcs_ret (x := ()) (r := ()) hcs) ?_
        replace hf := retU hf
        subst hf
        exact t_ofret (j_areturn (bC_mv G A) (hcs_ret (x := ()) (r := ()) hcs) rfl (Or.inl ⟨_, rfl⟩) dX7_clause_65)
theorem t7_clause {G : CG} {A : Nat → Prop} {l : Launch} (hfl : l.stackTraces = false) {r : (Nat ⊕ (Option Nat)) × Sg} {c0 n0 : Nat} (v0 : Option Nat) (u : Sg) (hf : f7_clause G v0 u = some (r, c0, n0)) : JMT G A l yX7_clause D7_clause [pR v0] u (omR r.1) r.2 c0 n0 := by
  refine t_met (lv0 := [(0, pR v0)]) ⟨pl_X7, rfl, rfl, (Nat.le_of_ble_eq_true rfl), rfl⟩ ?_
  have hcs : 0 + c0 ≤ c0 ∧ 0 + n0 ≤ n0 := ⟨by omega, by omega⟩
  unfold f7_clause at hf
  refine j_aload_n dX7_clause_0 0 rfl ?_
  refine j_ldc2 (z := 427071792498) q1050 (by decide) dX7_clause_1 ?_
  obtain ⟨b1, hb1, hf⟩ := ob hf
  obtain ⟨eb1, tb1⟩ := ztg_s hb1
  obtain ⟨x2, hx2, hf⟩ := ob hf
  refine a_Vr [pL 427071792498] [] (t7_is (some b1) 427071792498 u hx2) ⟨q787, q789, qs12, q146, q790⟩ dv7_is rfl ⟨(Nat.le_of_ble_eq_true rfl), (Nat.le_of_ble_eq_true rfl)⟩ (c_recv zcl_7 tb1) (by rw [← eb1]; rfl) (Nat.le_of_ble_eq_true rfl) dX7_clause_4 (hcs_ret (x := ()) (r := ()) hcs) ?_
  refine j_if_eq (w32 x2) rfl 14 dX7_clause_7 (by decide) (fun h6 => ?_) (fun h6 => ?_)
  · replace hf := it h6 hf
    refine j_aload_n dX7_clause_14 0 rfl ?_
    refine j_ldc2 (z := 465557354085) q1051 (by decide) dX7_clause_15 ?_
    obtain ⟨b3, hb3, hf⟩ := ob hf
    obtain ⟨eb3, tb3⟩ := ztg_s hb3
    obtain ⟨x4, hx4, hf⟩ := ob hf
    refine a_Vr [pL 465557354085] [] (t7_is (some b3) 465557354085 u hx4) ⟨q787, q789, qs12, q146, q790⟩ dv7_is rfl ⟨(Nat.le_of_ble_eq_true rfl), (Nat.le_of_ble_eq_true rfl)⟩ (c_recv zcl_7 tb3) (by rw [← eb3]; rfl) (Nat.le_of_ble_eq_true rfl) dX7_clause_18 (hcs_ret (x := ()) (r := ()) hcs) ?_
    refine j_if_eq (w32 x4) rfl 28 dX7_clause_21 (by decide) (fun h5 => ?_) (fun h5 => ?_)
    · replace hf := it h5 hf
      refine j_iconst dX7_clause_28 ?_
      exact j_sub [0] _ rfl (t7_clause_b29 hfl v0 2 u hcs hf)
    · replace hf := ie h5 hf
      refine j_iconst dX7_clause_24 ?_
      refine j_goto 29 dX7_clause_25 (by decide) ?_
      exact j_sub [0] _ rfl (t7_clause_b29 hfl v0 1 u hcs hf)
  · replace hf := ie h6 hf
    refine j_iconst dX7_clause_10 ?_
    refine j_goto 29 dX7_clause_11 (by decide) ?_
    exact j_sub [0] _ rfl (t7_clause_b29 hfl v0 0 u hcs hf)
theorem t9_init {G : CG} {A : Nat → Prop} {l : Launch} {r : Sg} {c0 n0 : Nat} (v0 : Option Nat) (v1 : Int) (v3 : Int) (u : Sg) (hf : f9_init G v0 v1 v3 u = some (r, c0, n0)) : JM kC (bC G A) A l yX9_init D9_init [pR v0, pL v1, pI v3] u none r c0 n0 := by
  refine j_met (lv0 := [(0, pR v0), (1, pL v1), (3, pI v3)]) ⟨pl_X9, rfl, rfl, (Nat.le_of_ble_eq_true rfl), rfl⟩ ?_
  have hcs : 0 + c0 ≤ c0 ∧ 0 + n0 ≤ n0 := ⟨by omega, by omega⟩
  unfold f9_init at hf
  refine j_aload_n dX9_init_0 0 rfl ?_
  obtain ⟨b1, eb1, hg⟩ := ob hf
  clear hf
  subst eb1
  have hf := hg
  clear hg
  refine c_objInit q846 q177 q178 (Nat.le_of_ble_eq_true rfl) (Nat.le_of_ble_eq_true rfl) (Nat.le_of_ble_eq_true rfl) dX9_init_1 ?_
  refine j_aload_n dX9_init_4 0 rfl ?_
  refine j_bipush dX9_init_5 (by decide) ?_
  obtain ⟨q2, kq2, mq2, k_q2, m_q2, hq2, hf, hkq2, hmq2⟩ := bdU_s hf
  obtain ⟨hczq2, hcs⟩ := hcs_step hcs hkq2 hmq2
  refine c_newa hq2 zat_4 dX9_init_7 hczq2 ?_
  obtain ⟨u3, hu3, hf⟩ := ob hf
  refine c_putaF (ci := 9) (k := 2) hu3 zcl_9 (Nat.le_of_ble_eq_true rfl) zf_X9_9 fk_362 rfl rfl rfl fits_A dX9_init_9 ?_
  refine j_aload_n dX9_init_12 0 rfl ?_
  refine j_lload_n dX9_init_13 1 rfl ?_
  obtain ⟨u4, hu4, hf⟩ := ob hf
  refine c_putlF (ci := 9) (k := 0) hu4 zcl_9 (Nat.le_of_ble_eq_true rfl) zf_X9_15 fk_360 rfl rfl rfl fits_L dX9_init_14 ?_
  refine j_aload_n dX9_init_17 0 rfl ?_
  refine j_iload_n dX9_init_18 2 rfl ?_
  obtain ⟨u5, hu5, hf⟩ := ob hf
  refine c_putiF (ci := 9) (k := 1) hu5 zcl_9 (Nat.le_of_ble_eq_true rfl) zf_X9_19 fk_361 rfl rfl rfl fits_I dX9_init_19 ?_
  refine j_aload_n dX9_init_22 0 rfl ?_
  refine j_iload_n dX9_init_23 2 rfl ?_
  refine j_if_ne (w32 v3) rfl 31 dX9_init_24 (by decide) (fun h8 => ?_) (fun h8 => ?_)
  · replace hf := ie h8 hf
    refine j_iconst dX9_init_31 ?_
    obtain ⟨u6, hu6, hf⟩ := ob hf
    refine c_puti (ci := 9) (k := 5) hu6 zcl_9 (Nat.le_of_ble_eq_true rfl) zf_X9_23 fk_365 rfl fits_I dX9_init_32 ?_
    replace hf := retU hf
    subst hf
    exact j_return (bC_mv G A) (hcs_ret (x := ()) (r := ()) hcs) rfl dX9_init_35
  · replace hf := it h8 hf
    refine j_iconst dX9_init_27 ?_
    refine j_goto 32 dX9_init_28 (by decide) ?_
    obtain ⟨u7, hu7, hf⟩ := ob hf
    refine c_puti (ci := 9) (k := 5) hu7 zcl_9 (Nat.le_of_ble_eq_true rfl) zf_X9_23 fk_365 rfl fits_I dX9_init_32 ?_
    replace hf := retU hf
    subst hf
    exact j_return (bC_mv G A) (hcs_ret (x := ()) (r := ()) hcs) rfl dX9_init_35
theorem t7_choices_l0 {G : CG} {A : Nat → Prop} {l : Launch} {a : List PV} {mc ms : Nat} (hfl : l.stackTraces = false) {r : (Nat ⊕ (Unit)) × Sg} {Kf : (Nat × Sg) ⊕ ((Sg) ⊕ (Sg) ⊕ (Sg)) → Option (((Nat ⊕ (Unit)) × Sg) × Nat × Nat)} (v0 : Option Nat) (v1 : Option Nat) (hX : ∀ (e : Nat × Sg) {c0 n0 : Nat}, Kf (.inl e) = some (r, c0, n0) → zT e.2 e.1 = 9 ∧ r = (.inl e.1, e.2)) (hK0 : ∀ (q : Sg) {ce sl c0 n0 : Nat}, ce + c0 ≤ mc ∧ sl + n0 ≤ ms → Kf (.inr (.inl q)) = some (r, c0, n0) → JW kC (bC G A) A l D7_choices a (tQQ yX7_choices G A a (omV r.1) r.2 mc ms) mc ms q ce sl 20 [(0, pR v0)] []) (hK1 : ∀ (q : Sg) {ce sl c0 n0 : Nat}, ce + c0 ≤ mc ∧ sl + n0 ≤ ms → Kf (.inr (.inr (.inl q))) = some (r, c0, n0) → JW kC (bC G A) A l D7_choices a (tQQ yX7_choices G A a (omV r.1) r.2 mc ms) mc ms q ce sl 42 [(0, pR v0)] []) (hK2 : ∀ (q : Sg) {ce sl c0 n0 : Nat}, ce + c0 ≤ mc ∧ sl + n0 ≤ ms → Kf (.inr (.inr (.inr q))) = some (r, c0, n0) → JW kC (bC G A) A l D7_choices a (tQQ yX7_choices G A a (omV r.1) r.2 mc ms) mc ms q ce sl 99 [(0, pR v0), (1, pR v1)] []) : ∀ (n : Nat) (u : Sg) {ce sl c0 n0 : Nat}, ce + c0 ≤ mc ∧ sl + n0 ≤ ms → (bdU (f7_choices_l0 G v0 v1 n u) Kf = some (r, c0, n0)) → JW kC (bC G A) A l D7_choices a (tQQ yX7_choices G A a (omV r.1) r.2 mc ms) mc ms u ce sl 0 [(0, pR v0), (1, pR v1)] [] := by
  intro n
  induction n with
  | zero => intro u ce sl c0 n0 hcs hf; exact onK hf
  | succ n ih =>
    intro u ce sl c0 n0 hcs hf
    unfold f7_choices_l0 at hf
    refine j_aload_n dX7_choices_0 0 rfl ?_
    obtain ⟨b1, hb1, hf⟩ := obK hf
    obtain ⟨eb1, tb1⟩ := ztg_s hb1
    replace hf := bdU_a hf
    obtain ⟨q2, kq2, mq2, k_q2, m_q2, hq2, hf, hkq2, hmq2⟩ := bdU_s hf
    obtain ⟨hczq2, hcs⟩ := hcs_step hcs hkq2 hmq2
    have hMq2 := t7_next (A := A) hfl (some b1) u hq2
    rcases zq2 : q2.1 with e3 | x4
    · rw [zq2] at hf hMq2
      replace hf := telLK hf
      obtain ⟨ht, hr⟩ := hX _ (bdU_0 hf)
      rw [hr]
      exact x_callV [] [] _ hMq2 ⟨q647, q649, qs3, q146, q650⟩ dv7_next rfl ⟨(Nat.le_of_ble_eq_true rfl), (Nat.le_of_ble_eq_true rfl)⟩ (c_recv zcl_7 tb1) (by rw [← eb1]; rfl) (Nat.le_of_ble_eq_true rfl) dX7_choices_1 hczq2 ht q883
    · rw [zq2] at hf hMq2
      replace hf := telRK hf
      refine t_callV [] [] _ hMq2 ⟨q647, q649, qs3, q146, q650⟩ dv7_next rfl ⟨(Nat.le_of_ble_eq_true rfl), (Nat.le_of_ble_eq_true rfl)⟩ (c_recv zcl_7 tb1) (by rw [← eb1]; rfl) (Nat.le_of_ble_eq_true rfl) dX7_choices_1 hczq2 ?_
      refine j_aload_n dX7_choices_4 0 rfl ?_
      refine j_iconst dX7_choices_5 ?_
      obtain ⟨b5, hb5, hf⟩ := obK hf
      obtain ⟨eb5, tb5⟩ := ztg_s hb5
      replace hf := bdU_a hf
      obtain ⟨q6, kq6, mq6, k_q6, m_q6, hq6, hf, hkq6, hmq6⟩ := bdU_s hf
      obtain ⟨hczq6, hcs⟩ := hcs_step hcs hkq6 hmq6
      have hMq6 := t7_wantKind (A := A) hfl (some b5) 1 q2.2 hq6
      rcases zq6 : q6.1 with e7 | x8
      · rw [zq6] at hf hMq6
        replace hf := telLK hf
        obtain ⟨ht, hr⟩ := hX _ (bdU_0 hf)
        rw [hr]
        exact x_callV [pI 1] [] _ hMq6 ⟨q799, q801, qs15, q146, q802⟩ dv7_wantKind rfl ⟨(Nat.le_of_ble_eq_true rfl), (Nat.le_of_ble_eq_true rfl)⟩ (c_recv zcl_7 tb5) (by rw [← eb5]; rfl) (Nat.le_of_ble_eq_true rfl) dX7_choices_6 hczq6 ht q883
      · rw [zq6] at hf hMq6
        replace hf := telRK hf
        refine t_callV [pI 1] [] _ hMq6 ⟨q799, q801, qs15, q146, q802⟩ dv7_wantKind rfl ⟨(Nat.le_of_ble_eq_true rfl), (Nat.le_of_ble_eq_true rfl)⟩ (c_recv zcl_7 tb5) (by rw [← eb5]; rfl) (Nat.le_of_ble_eq_true rfl) dX7_choices_6 hczq6 ?_
        refine j_aload_n dX7_choices_9 1 rfl ?_
        refine j_aload_n dX7_choices_10 0 rfl ?_
        obtain ⟨x9, hx9, hf⟩ := obK hf
        refine c_getl (ci := 7) (k := 3) hx9 zcl_7 (Nat.le_of_ble_eq_true rfl) zf_X7_53 fk_283 dX7_choices_11 ?_
        obtain ⟨b10, hb10, hf⟩ := obK hf
        obtain ⟨eb10, tb10⟩ := ztg_s hb10
        obtain ⟨x11, hx11, hf⟩ := obK hf
        refine a_Vr [pL x9] [] (t9_choice (some b10) x9 q6.2 hx11) ⟨q884, q885, q886, q152, q887⟩ dv9_choice rfl ⟨(Nat.le_of_ble_eq_true rfl), (Nat.le_of_ble_eq_true rfl)⟩ (c_recv zcl_9 tb10) (by rw [← eb10]; rfl) (Nat.le_of_ble_eq_true rfl) dX7_choices_14 (hcs_ret (x := ()) (r := ()) hcs) ?_
        refine j_if_lt (w32 x11) rfl 33 dX7_choices_17 (by decide) (fun h28 => ?_) (fun h28 => ?_)
        · replace hf := itK h28 hf
          refine j_aload_n dX7_choices_33 1 rfl ?_
          obtain ⟨x12, hx12, hf⟩ := obK hf
          refine c_getiN (ci := 9) (k := 3) hx12 zcl_9 (Nat.le_of_ble_eq_true rfl) zf_X7_248 fk_363 dX7_choices_34 ?_
          refine j_bipush dX7_choices_37 (by decide) ?_
          refine j_icmp_ne (w32 x12) 6 rfl rfl 56 dX7_choices_39 (by decide) (fun h27 => ?_) (fun h27 => ?_)
          · replace hf := ieK h27 hf
            refine j_aload_n dX7_choices_56 1 rfl ?_
            obtain ⟨x13, hx13, hf⟩ := obK hf
            refine c_getaN (ci := 9) (k := 2) hx13 zcl_9 (Nat.le_of_ble_eq_true rfl) zf_X7_250 fk_362 dX7_choices_57 ?_
            refine j_aload_n dX7_choices_60 1 rfl ?_
            refine j_dup dX7_choices_61 rfl ?_
            obtain ⟨x14, hx14, hf⟩ := obK hf
            refine c_getiN (ci := 9) (k := 3) hx14 zcl_9 (Nat.le_of_ble_eq_true rfl) zf_X7_248 fk_363 dX7_choices_62 ?_
            refine j_dup_x1 dX7_choices_65 rfl rfl ?_
            refine j_iconst dX7_choices_66 ?_
            refine j_iadd dX7_choices_67 ?_
            obtain ⟨u15, hu15, hf⟩ := obK hf
            refine c_putiN (ci := 9) (k := 3) hu15 zcl_9 (Nat.le_of_ble_eq_true rfl) zf_X7_248 fk_363 rfl fits_I dX7_choices_68 ?_
            refine j_aload_n dX7_choices_71 0 rfl ?_
            obtain ⟨x16, hx16, hf⟩ := obK hf
            refine c_getl (ci := 7) (k := 3) hx16 zcl_7 (Nat.le_of_ble_eq_true rfl) zf_X7_53 fk_283 dX7_choices_72 ?_
            obtain ⟨u17, hu17, hf⟩ := obK hf
            refine c_last hu17 dX7_choices_75 ?_
            refine j_aload_n dX7_choices_76 1 rfl ?_
            refine j_aload_n dX7_choices_77 1 rfl ?_
            obtain ⟨x18, hx18, hf⟩ := obK hf
            refine c_getiN (ci := 9) (k := 3) hx18 zcl_9 (Nat.le_of_ble_eq_true rfl) zf_X7_248 fk_363 dX7_choices_78 ?_
            refine j_iconst dX7_choices_81 ?_
            refine j_isub dX7_choices_82 ?_
            obtain ⟨u19, hu19, hf⟩ := obK hf
            refine c_putiN (ci := 9) (k := 5) hu19 zcl_9 (Nat.le_of_ble_eq_true rfl) zf_X7_245 fk_365 rfl fits_I dX7_choices_83 ?_
            refine j_aload_n dX7_choices_86 0 rfl ?_
            obtain ⟨b20, hb20, hf⟩ := obK hf
            obtain ⟨eb20, tb20⟩ := ztg_s hb20
            replace hf := bdU_a hf
            obtain ⟨q21, kq21, mq21, k_q21, m_q21, hq21, hf, hkq21, hmq21⟩ := bdU_s hf
            obtain ⟨hczq21, hcs⟩ := hcs_step hcs hkq21 hmq21
            have hMq21 := t7_next (A := A) hfl (some b20) u19 hq21
            rcases zq21 : q21.1 with e22 | x23
            · rw [zq21] at hf hMq21
              replace hf := telLK hf
              obtain ⟨ht, hr⟩ := hX _ (bdU_0 hf)
              rw [hr]
              exact x_callV [] [] _ hMq21 ⟨q647, q649, qs3, q146, q650⟩ dv7_next rfl ⟨(Nat.le_of_ble_eq_true rfl), (Nat.le_of_ble_eq_true rfl)⟩ (c_recv zcl_7 tb20) (by rw [← eb20]; rfl) (Nat.le_of_ble_eq_true rfl) dX7_choices_87 hczq21 ht q883
            · rw [zq21] at hf hMq21
              replace hf := telRK hf
              refine t_callV [] [] _ hMq21 ⟨q647, q649, qs3, q146, q650⟩ dv7_next rfl ⟨(Nat.le_of_ble_eq_true rfl), (Nat.le_of_ble_eq_true rfl)⟩ (c_recv zcl_7 tb20) (by rw [← eb20]; rfl) (Nat.le_of_ble_eq_true rfl) dX7_choices_87 hczq21 ?_
              refine j_aload_n dX7_choices_90 0 rfl ?_
              refine j_bipush dX7_choices_91 (by decide) ?_
              obtain ⟨b24, hb24, hf⟩ := obK hf
              obtain ⟨eb24, tb24⟩ := ztg_s hb24
              obtain ⟨x25, hx25, hf⟩ := obK hf
              refine a_Vr [pI 44] [] (t7_isSign (some b24) 44 q21.2 hx25) ⟨q888, q890, qs17, q146, q891⟩ dv7_isSign rfl ⟨(Nat.le_of_ble_eq_true rfl), (Nat.le_of_ble_eq_true rfl)⟩ (c_recv zcl_7 tb24) (by rw [← eb24]; rfl) (Nat.le_of_ble_eq_true rfl) dX7_choices_93 (hcs_ret (x := ()) (r := ()) hcs) ?_
              refine j_if_ne (w32 x25) rfl 0 dX7_choices_96 (by decide) (fun h26 => ?_) (fun h26 => ?_)
              · replace hf := ieK h26 hf
                exact j_sub [0, 1] _ rfl (ih q21.2 hcs hf)
              · replace hf := itK h26 hf
                exact j_sub [0, 1] _ rfl (hK2 q21.2 hcs (bdU_0 hf))
          · replace hf := itK h27 hf
            exact j_sub [0] _ rfl (hK1 q6.2 hcs (bdU_0 hf))
        · replace hf := ieK h28 hf
          exact j_sub [0] _ rfl (hK0 q6.2 hcs (bdU_0 hf))
theorem t7_choices {G : CG} {A : Nat → Prop} {l : Launch} (hfl : l.stackTraces = false) {r : (Nat ⊕ (Unit)) × Sg} {c0 n0 : Nat} (v0 : Option Nat) (v1 : Option Nat) (u : Sg) (hf : f7_choices G v0 v1 u = some (r, c0, n0)) : JMT G A l yX7_choices D7_choices [pR v0, pR v1] u (omV r.1) r.2 c0 n0 := by
  refine t_met (lv0 := [(0, pR v0), (1, pR v1)]) ⟨pl_X7, rfl, rfl, (Nat.le_of_ble_eq_true rfl), rfl⟩ ?_
  have hcs : 0 + c0 ≤ c0 ∧ 0 + n0 ≤ n0 := ⟨by omega, by omega⟩
  unfold f7_choices at hf
  refine j_sub [0, 1] _ rfl (t7_choices_l0 hfl v0 v1 ?_ ?_ ?_ ?_ NN u hcs hf)
  · intro e15 c0 n0 hf
    simp only [Sum.elim_inl] at hf
    exact xth_s hf
  · intro q1 ceq1 slq1 cq1 nq1 hcs hf
    simp only [Sum.elim_inl, Sum.elim_inr] at hf
    obtain ⟨q2, kq2, mq2, k_q2, m_q2, hq2, hf, hkq2, hmq2⟩ := bdU_s hf
    obtain ⟨hczq2, hcs⟩ := hcs_step hcs hkq2 hmq2
    refine c_new (ci := 8) hq2 zcl_8 zmk_8 q667 dX7_choices_20 hczq2 ?_
    refine j_dup dX7_choices_23 rfl ?_
    refine j_iconst dX7_choices_24 ?_
    refine j_aload_n dX7_choices_25 0 rfl ?_
    obtain ⟨x3, hx3, hf⟩ := ob hf
    refine c_geti (ci := 7) (k := 2) hx3 zcl_7 (Nat.le_of_ble_eq_true rfl) zf_X7_43 fk_282 dX7_choices_26 ?_
    obtain ⟨u4, hu4, hf⟩ := ob hf
    refine c_callI [pI 3, pI x3] [pR (some q2.1)] _ (t8_init hfl (some q2.1) 3 x3 q2.2 hu4) ⟨q706, q707, q150, q708, rfl, rfl⟩ dv8_init rfl ⟨(Nat.le_of_ble_eq_true rfl), (Nat.le_of_ble_eq_true rfl)⟩ rfl (Nat.le_of_ble_eq_true rfl) dX7_choices_29 (hcs_ret (x := ()) (r := ()) hcs) ?_
    obtain ⟨ht, hr⟩ := xth_s hf
    rw [hr]
    exact t_athrow ht q883 (hcs_ret (x := ()) (r := ()) hcs) dX7_choices_32
  · intro q5 ceq5 slq5 cq5 nq5 hcs hf
    simp only [Sum.elim_inl, Sum.elim_inr] at hf
    obtain ⟨q6, kq6, mq6, k_q6, m_q6, hq6, hf, hkq6, hmq6⟩ := bdU_s hf
    obtain ⟨hczq6, hcs⟩ := hcs_step hcs hkq6 hmq6
    refine c_new (ci := 8) hq6 zcl_8 zmk_8 q667 dX7_choices_42 hczq6 ?_
    refine j_dup dX7_choices_45 rfl ?_
    refine j_bipush dX7_choices_46 (by decide) ?_
    refine j_aload_n dX7_choices_48 0 rfl ?_
    obtain ⟨x7, hx7, hf⟩ := ob hf
    refine c_geti (ci := 7) (k := 2) hx7 zcl_7 (Nat.le_of_ble_eq_true rfl) zf_X7_43 fk_282 dX7_choices_49 ?_
    obtain ⟨u8, hu8, hf⟩ := ob hf
    refine c_callI [pI 6, pI x7] [pR (some q6.1)] _ (t8_init hfl (some q6.1) 6 x7 q6.2 hu8) ⟨q706, q707, q150, q708, rfl, rfl⟩ dv8_init rfl ⟨(Nat.le_of_ble_eq_true rfl), (Nat.le_of_ble_eq_true rfl)⟩ rfl (Nat.le_of_ble_eq_true rfl) dX7_choices_52 (hcs_ret (x := ()) (r := ()) hcs) ?_
    obtain ⟨ht, hr⟩ := xth_s hf
    rw [hr]
    exact t_athrow ht q883 (hcs_ret (x := ()) (r := ()) hcs) dX7_choices_55
  · intro q9 ceq9 slq9 cq9 nq9 hcs hf
    simp only [Sum.elim_inl, Sum.elim_inr] at hf
    refine j_aload_n dX7_choices_99 1 rfl ?_
    obtain ⟨x10, hx10, hf⟩ := ob hf
    refine c_getiN (ci := 9) (k := 3) hx10 zcl_9 (Nat.le_of_ble_eq_true rfl) zf_X7_248 fk_363 dX7_choices_100 ?_
    refine j_iconst dX7_choices_103 ?_
    refine j_icmp_ge (w32 x10) 2 rfl rfl 120 dX7_choices_104 (by decide) (fun h14 => ?_) (fun h14 => ?_)
    · replace hf := it h14 hf
      replace hf := retU hf
      subst hf
      exact t_ofret (j_return (bC_mv G A) (hcs_ret (x := ()) (r := ()) hcs) rfl dX7_choices_120)
    · replace hf := ie h14 hf
      obtain ⟨q11, kq11, mq11, k_q11, m_q11, hq11, hf, hkq11, hmq11⟩ := bdU_s hf
      obtain ⟨hczq11, hcs⟩ := hcs_step hcs hkq11 hmq11
      refine c_new (ci := 8) hq11 zcl_8 zmk_8 q667 dX7_choices_107 hczq11 ?_
      refine j_dup dX7_choices_110 rfl ?_
      refine j_iconst dX7_choices_111 ?_
      refine j_aload_n dX7_choices_112 0 rfl ?_
      obtain ⟨x12, hx12, hf⟩ := ob hf
      refine c_geti (ci := 7) (k := 2) hx12 zcl_7 (Nat.le_of_ble_eq_true rfl) zf_X7_43 fk_282 dX7_choices_113 ?_
      obtain ⟨u13, hu13, hf⟩ := ob hf
      refine c_callI [pI 2, pI x12] [pR (some q11.1)] _ (t8_init hfl (some q11.1) 2 x12 q11.2 hu13) ⟨q706, q707, q150, q708, rfl, rfl⟩ dv8_init rfl ⟨(Nat.le_of_ble_eq_true rfl), (Nat.le_of_ble_eq_true rfl)⟩ rfl (Nat.le_of_ble_eq_true rfl) dX7_choices_116 (hcs_ret (x := ()) (r := ()) hcs) ?_
      obtain ⟨ht, hr⟩ := xth_s hf
      rw [hr]
      exact t_athrow ht q883 (hcs_ret (x := ()) (r := ()) hcs) dX7_choices_119
theorem t7_newName_b33 {G : CG} {A : Nat → Prop} {l : Launch} {a : List PV} {mc ms ce sl : Nat} (hfl : l.stackTraces = false) {r : (Nat ⊕ (Int)) × Sg} {c0 n0 : Nat} (v0 : Option Nat) (u : Sg) (hcs : ce + c0 ≤ mc ∧ sl + n0 ≤ ms) (hf : f7_newName_b33 G v0 u = some (r, c0, n0)) : JW kC (bC G A) A l D7_newName a (tQQ yX7_newName G A a (omL r.1) r.2 mc ms) mc ms u ce sl 33 [(0, pR v0)] [] := by
  unfold f7_newName_b33 at hf
  obtain ⟨q1, kq1, mq1, k_q1, m_q1, hq1, hf, hkq1, hmq1⟩ := bdU_s hf
  obtain ⟨hczq1, hcs⟩ := hcs_step hcs hkq1 hmq1
  refine c_new (ci := 8) hq1 zcl_8 zmk_8 q667 dX7_newName_33 hczq1 ?_
  refine j_dup dX7_newName_36 rfl ?_
  refine j_iconst dX7_newName_37 ?_
  refine j_aload_n dX7_newName_38 0 rfl ?_
  obtain ⟨x2, hx2, hf⟩ := ob hf
  refine c_geti (ci := 7) (k := 2) hx2 zcl_7 (Nat.le_of_ble_eq_true rfl) zf_X7_43 fk_282 dX7_newName_39 ?_
  obtain ⟨u3, hu3, hf⟩ := ob hf
  refine c_callI [pI 3, pI x2] [pR (some q1.1)] _ (t8_init hfl (some q1.1) 3 x2 q1.2 hu3) ⟨q706, q707, q150, q708, rfl, rfl⟩ dv8_init rfl ⟨(Nat.le_of_ble_eq_true rfl), (Nat.le_of_ble_eq_true rfl)⟩ rfl (Nat.le_of_ble_eq_true rfl) dX7_newName_42 (hcs_ret (x := ()) (r := ()) hcs) ?_
  obtain ⟨ht, hr⟩ := xth_s hf
  rw [hr]
  exact t_athrow ht q798 (hcs_ret (x := ()) (r := ()) hcs) dX7_newName_45
theorem t7_newName {G : CG} {A : Nat → Prop} {l : Launch} (hfl : l.stackTraces = false) {r : (Nat ⊕ (Int)) × Sg} {c0 n0 : Nat} (v0 : Option Nat) (u : Sg) (hf : f7_newName G v0 u = some (r, c0, n0)) : JMT G A l yX7_newName D7_newName [pR v0] u (omL r.1) r.2 c0 n0 := by
  refine t_met (lv0 := [(0, pR v0)]) ⟨pl_X7, rfl, rfl, (Nat.le_of_ble_eq_true rfl), rfl⟩ ?_
  have hcs : 0 + c0 ≤ c0 ∧ 0 + n0 ≤ n0 := ⟨by omega, by omega⟩
  unfold f7_newName at hf
  refine j_aload_n dX7_newName_0 0 rfl ?_
  refine j_iconst dX7_newName_1 ?_
  obtain ⟨b1, hb1, hf⟩ := ob hf
  obtain ⟨eb1, tb1⟩ := ztg_s hb1
  obtain ⟨q2, kq2, mq2, k_q2, m_q2, hq2, hf, hkq2, hmq2⟩ := bdU_s hf
  obtain ⟨hczq2, hcs⟩ := hcs_step hcs hkq2 hmq2
  have hMq2 := t7_wantKind (A := A) hfl (some b1) 1 u hq2
  rcases zq2 : q2.1 with e3 | x4
  · rw [zq2] at hf hMq2
    replace hf := telL hf
    obtain ⟨ht, hr⟩ := xth_s hf
    rw [hr]
    exact x_callV [pI 1] [] _ hMq2 ⟨q799, q801, qs15, q146, q802⟩ dv7_wantKind rfl ⟨(Nat.le_of_ble_eq_true rfl), (Nat.le_of_ble_eq_true rfl)⟩ (c_recv zcl_7 tb1) (by rw [← eb1]; rfl) (Nat.le_of_ble_eq_true rfl) dX7_newName_2 hczq2 ht q798
  · rw [zq2] at hf hMq2
    replace hf := telR hf
    refine t_callV [pI 1] [] _ hMq2 ⟨q799, q801, qs15, q146, q802⟩ dv7_wantKind rfl ⟨(Nat.le_of_ble_eq_true rfl), (Nat.le_of_ble_eq_true rfl)⟩ (c_recv zcl_7 tb1) (by rw [← eb1]; rfl) (Nat.le_of_ble_eq_true rfl) dX7_newName_2 hczq2 ?_
    refine j_aload_n dX7_newName_5 0 rfl ?_
    obtain ⟨x5, hx5, hf⟩ := ob hf
    refine c_geta (ci := 7) (k := 6) hx5 zcl_7 (Nat.le_of_ble_eq_true rfl) zf_X7_15 fk_286 dX7_newName_6 ?_
    refine j_aload_n dX7_newName_9 0 rfl ?_
    obtain ⟨x6, hx6, hf⟩ := ob hf
    refine c_getl (ci := 7) (k := 3) hx6 zcl_7 (Nat.le_of_ble_eq_true rfl) zf_X7_53 fk_283 dX7_newName_10 ?_
    obtain ⟨b7, hb7, hf⟩ := ob hf
    obtain ⟨eb7, tb7⟩ := ztg_s hb7
    obtain ⟨x8, hx8, hf⟩ := ob hf
    refine a_Vr [pL x6] [] (t6_fact (some b7) x6 q2.2 hx8) ⟨q803, q804, q805, q145, q806⟩ dv6_fact rfl ⟨(Nat.le_of_ble_eq_true rfl), (Nat.le_of_ble_eq_true rfl)⟩ (c_recv zcl_6 tb7) (by rw [← eb7]; rfl) (Nat.le_of_ble_eq_true rfl) dX7_newName_13 (hcs_ret (x := ()) (r := ()) hcs) ?_
    refine j_if_ge (w32 x8) rfl 33 dX7_newName_16 (by decide) (fun h15 => ?_) (fun h15 => ?_)
    · replace hf := it h15 hf
      exact j_sub [0] _ rfl (t7_newName_b33 hfl v0 q2.2 hcs hf)
    · replace hf := ie h15 hf
      refine j_aload_n dX7_newName_19 0 rfl ?_
      obtain ⟨x9, hx9, hf⟩ := ob hf
      refine c_geta (ci := 7) (k := 6) hx9 zcl_7 (Nat.le_of_ble_eq_true rfl) zf_X7_15 fk_286 dX7_newName_20 ?_
      refine j_aload_n dX7_newName_23 0 rfl ?_
      obtain ⟨x10, hx10, hf⟩ := ob hf
      refine c_getl (ci := 7) (k := 3) hx10 zcl_7 (Nat.le_of_ble_eq_true rfl) zf_X7_53 fk_283 dX7_newName_24 ?_
      obtain ⟨b11, hb11, hf⟩ := ob hf
      obtain ⟨eb11, tb11⟩ := ztg_s hb11
      obtain ⟨x12, hx12, hf⟩ := ob hf
      refine a_Vr [pL x10] [] (t6_meaning (some b11) x10 q2.2 hx12) ⟨q829, q830, q831, q145, q832⟩ dv6_meaning rfl ⟨(Nat.le_of_ble_eq_true rfl), (Nat.le_of_ble_eq_true rfl)⟩ (c_recv zcl_6 tb11) (by rw [← eb11]; rfl) (Nat.le_of_ble_eq_true rfl) dX7_newName_27 (hcs_ret (x := ()) (r := ()) hcs) ?_
      refine j_if_lt (w32 x12) rfl 46 dX7_newName_30 (by decide) (fun h14 => ?_) (fun h14 => ?_)
      · replace hf := it h14 hf
        refine j_aload_n dX7_newName_46 0 rfl ?_
        obtain ⟨x13, hx13, hf⟩ := ob hf
        refine c_getl (ci := 7) (k := 3) hx13 zcl_7 (Nat.le_of_ble_eq_true rfl) zf_X7_53 fk_283 dX7_newName_47 ?_
        replace hf := retU hf
        subst hf
        exact t_ofret (j_lreturn (bC_mv G A) (hcs_ret (x := ()) (r := ()) hcs) rfl dX7_newName_50)
      · replace hf := ie h14 hf
        exact j_sub [0] _ rfl (t7_newName_b33 hfl v0 q2.2 hcs hf)

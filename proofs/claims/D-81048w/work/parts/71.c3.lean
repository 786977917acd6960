theorem t7_fact_b193 {G : CG} {A : Nat → Prop} {l : Launch} {a : List PV} {mc ms ce sl : Nat} (hfl : l.stackTraces = false) {r : (Nat ⊕ (Unit)) × Sg} {c0 n0 : Nat} (v0 : Option Nat) (v3 : Option Nat) (u : Sg) (hcs : ce + c0 ≤ mc ∧ sl + n0 ≤ ms) (hf : f7_fact_b193 G v0 v3 u = some (r, c0, n0)) : JW kC (bC G A) A l D7_fact a (tQQ yX7_fact G A a (omV r.1) r.2 mc ms) mc ms u ce sl 193 [(0, pR v0), (3, pR v3)] [] := by
  unfold f7_fact_b193 at hf
  refine j_aload_n dX7_fact_193 0 rfl ?_
  refine j_bipush dX7_fact_194 (by decide) ?_
  obtain ⟨b1, hb1, hf⟩ := ob hf
  obtain ⟨eb1, tb1⟩ := ztg_s hb1
  obtain ⟨q2, kq2, mq2, k_q2, m_q2, hq2, hf, hkq2, hmq2⟩ := bdU_s hf
  obtain ⟨hczq2, hcs⟩ := hcs_step hcs hkq2 hmq2
  have hMq2 := t7_want (A := A) hfl (some b1) 59 u hq2
  rcases zq2 : q2.1 with e3 | x4
  · rw [zq2] at hf hMq2
    replace hf := telL hf
    obtain ⟨ht, hr⟩ := xth_s hf
    rw [hr]
    exact x_callV [pI 59] [] _ hMq2 ⟨q899, q901, qs19, q146, q902⟩ dv7_want rfl ⟨(Nat.le_of_ble_eq_true rfl), (Nat.le_of_ble_eq_true rfl)⟩ (c_recv zcl_7 tb1) (by rw [← eb1]; rfl) (Nat.le_of_ble_eq_true rfl) dX7_fact_196 hczq2 ht q794
  · rw [zq2] at hf hMq2
    replace hf := telR hf
    refine t_callV [pI 59] [] _ hMq2 ⟨q899, q901, qs19, q146, q902⟩ dv7_want rfl ⟨(Nat.le_of_ble_eq_true rfl), (Nat.le_of_ble_eq_true rfl)⟩ (c_recv zcl_7 tb1) (by rw [← eb1]; rfl) (Nat.le_of_ble_eq_true rfl) dX7_fact_196 hczq2 ?_
    refine j_aload_n dX7_fact_199 0 rfl ?_
    obtain ⟨x5, hx5, hf⟩ := ob hf
    refine c_geta (ci := 7) (k := 6) hx5 zcl_7 (Nat.le_of_ble_eq_true rfl) zf_X7_15 fk_286 dX7_fact_200 ?_
    obtain ⟨x6, hx6, hf⟩ := ob hf
    refine c_getaN (ci := 6) (k := 0) hx6 zcl_6 (Nat.le_of_ble_eq_true rfl) zf_X7_155 fk_240 dX7_fact_203 ?_
    refine j_aload_n dX7_fact_206 1 rfl ?_
    obtain ⟨b7, hb7, hf⟩ := ob hf
    obtain ⟨eb7, tb7⟩ := ztg_s hb7
    obtain ⟨q8, kq8, mq8, k_q8, m_q8, hq8, hf, hkq8, hmq8⟩ := bdU_s hf
    obtain ⟨hczq8, hcs⟩ := hcs_step hcs hkq8 hmq8
    refine a_Fr (x := ix_2) [pR v3] [] (tJ2_add (some b7) v3 q2.2 hq8) ⟨q904, q325, q327, q131, q329⟩ iF_2 df_2 rfl ⟨(Nat.le_of_ble_eq_true rfl), (Nat.le_of_ble_eq_true rfl)⟩ zcl_5 rfl tb7 (by rw [← eb7]; rfl) (Nat.le_of_ble_eq_true rfl) dX7_fact_207 hczq8 ?_
    refine j_pop dX7_fact_212 rfl ?_
    replace hf := retU hf
    subst hf
    exact t_ofret (j_return (bC_mv G A) (hcs_ret (x := ()) (r := ()) hcs) rfl dX7_fact_213)
theorem t7_fact {G : CG} {A : Nat → Prop} {l : Launch} (hfl : l.stackTraces = false) {r : (Nat ⊕ (Unit)) × Sg} {c0 n0 : Nat} (v0 : Option Nat) (u : Sg) (hf : f7_fact G v0 u = some (r, c0, n0)) : JMT G A l yX7_fact D7_fact [pR v0] u (omV r.1) r.2 c0 n0 := by
  refine t_met (lv0 := [(0, pR v0)]) ⟨pl_X7, rfl, rfl, (Nat.le_of_ble_eq_true rfl), rfl⟩ ?_
  have hcs : 0 + c0 ≤ c0 ∧ 0 + n0 ≤ n0 := ⟨by omega, by omega⟩
  unfold f7_fact at hf
  refine j_aload_n dX7_fact_0 0 rfl ?_
  obtain ⟨b1, hb1, hf⟩ := ob hf
  obtain ⟨eb1, tb1⟩ := ztg_s hb1
  obtain ⟨q2, kq2, mq2, k_q2, m_q2, hq2, hf, hkq2, hmq2⟩ := bdU_s hf
  obtain ⟨hczq2, hcs⟩ := hcs_step hcs hkq2 hmq2
  have hMq2 := t7_next (A := A) hfl (some b1) u hq2
  rcases zq2 : q2.1 with e3 | x4
  · rw [zq2] at hf hMq2
    replace hf := telL hf
    obtain ⟨ht, hr⟩ := xth_s hf
    rw [hr]
    exact x_callV [] [] _ hMq2 ⟨q647, q649, qs3, q146, q650⟩ dv7_next rfl ⟨(Nat.le_of_ble_eq_true rfl), (Nat.le_of_ble_eq_true rfl)⟩ (c_recv zcl_7 tb1) (by rw [← eb1]; rfl) (Nat.le_of_ble_eq_true rfl) dX7_fact_1 hczq2 ht q794
  · rw [zq2] at hf hMq2
    replace hf := telR hf
    refine t_callV [] [] _ hMq2 ⟨q647, q649, qs3, q146, q650⟩ dv7_next rfl ⟨(Nat.le_of_ble_eq_true rfl), (Nat.le_of_ble_eq_true rfl)⟩ (c_recv zcl_7 tb1) (by rw [← eb1]; rfl) (Nat.le_of_ble_eq_true rfl) dX7_fact_1 hczq2 ?_
    refine j_aload_n dX7_fact_4 0 rfl ?_
    obtain ⟨b5, hb5, hf⟩ := ob hf
    obtain ⟨eb5, tb5⟩ := ztg_s hb5
    obtain ⟨q6, kq6, mq6, k_q6, m_q6, hq6, hf, hkq6, hmq6⟩ := bdU_s hf
    obtain ⟨hczq6, hcs⟩ := hcs_step hcs hkq6 hmq6
    have hMq6 := t7_newName (A := A) hfl (some b5) q2.2 hq6
    rcases zq6 : q6.1 with e7 | x8
    · rw [zq6] at hf hMq6
      replace hf := telL hf
      obtain ⟨ht, hr⟩ := xth_s hf
      rw [hr]
      exact x_callV [] [] _ hMq6 ⟨q795, q797, qs14, q146, q798⟩ dv7_newName rfl ⟨(Nat.le_of_ble_eq_true rfl), (Nat.le_of_ble_eq_true rfl)⟩ (c_recv zcl_7 tb5) (by rw [← eb5]; rfl) (Nat.le_of_ble_eq_true rfl) dX7_fact_5 hczq6 ht q794
    · rw [zq6] at hf hMq6
      replace hf := telR hf
      refine t_callV [] [] _ hMq6 ⟨q795, q797, qs14, q146, q798⟩ dv7_newName rfl ⟨(Nat.le_of_ble_eq_true rfl), (Nat.le_of_ble_eq_true rfl)⟩ (c_recv zcl_7 tb5) (by rw [← eb5]; rfl) (Nat.le_of_ble_eq_true rfl) dX7_fact_5 hczq6 ?_
      refine j_lstore_n dX7_fact_8 [(1, pL x8), (0, pR v0)] (Nat.le_of_ble_eq_true rfl) rfl ?_
      refine j_aload_n dX7_fact_9 1 rfl ?_
      obtain ⟨x9, hx9, hf⟩ := ob hf
      refine c_geta (ci := 7) (k := 6) hx9 zcl_7 (Nat.le_of_ble_eq_true rfl) zf_X7_15 fk_286 dX7_fact_10 ?_
      obtain ⟨x10, hx10, hf⟩ := ob hf
      refine c_getaN (ci := 6) (k := 0) hx10 zcl_6 (Nat.le_of_ble_eq_true rfl) zf_X7_155 fk_240 dX7_fact_13 ?_
      obtain ⟨b11, hb11, hf⟩ := ob hf
      obtain ⟨eb11, tb11⟩ := ztg_s hb11
      obtain ⟨x12, hx12, hf⟩ := ob hf
      refine a_Fr (x := ix_0) [] [] (tJ2_size (some b11) q6.2 hx12) ⟨q839, q559, q561, q131, q563⟩ iF_0 df_0 rfl ⟨(Nat.le_of_ble_eq_true rfl), (Nat.le_of_ble_eq_true rfl)⟩ zcl_5 rfl tb11 (by rw [← eb11]; rfl) (Nat.le_of_ble_eq_true rfl) dX7_fact_16 (hcs_ret (x := ()) (r := ()) hcs) ?_
      refine j_bipush dX7_fact_21 (by decide) ?_
      refine j_icmp_ne (w32 x12) 8 rfl rfl 40 dX7_fact_23 (by decide) (fun h71 => ?_) (fun h71 => ?_)
      · replace hf := ie h71 hf
        refine j_aload_n dX7_fact_40 1 rfl ?_
        obtain ⟨b13, hb13, hf⟩ := ob hf
        obtain ⟨eb13, tb13⟩ := ztg_s hb13
        obtain ⟨q14, kq14, mq14, k_q14, m_q14, hq14, hf, hkq14, hmq14⟩ := bdU_s hf
        obtain ⟨hczq14, hcs⟩ := hcs_step hcs hkq14 hmq14
        have hMq14 := t7_next (A := A) hfl (some b13) q6.2 hq14
        rcases zq14 : q14.1 with e15 | x16
        · rw [zq14] at hf hMq14
          replace hf := telL hf
          obtain ⟨ht, hr⟩ := xth_s hf
          rw [hr]
          exact x_callV [] [] _ hMq14 ⟨q647, q649, qs3, q146, q650⟩ dv7_next rfl ⟨(Nat.le_of_ble_eq_true rfl), (Nat.le_of_ble_eq_true rfl)⟩ (c_recv zcl_7 tb13) (by rw [← eb13]; rfl) (Nat.le_of_ble_eq_true rfl) dX7_fact_41 hczq14 ht q794
        · rw [zq14] at hf hMq14
          replace hf := telR hf
          refine t_callV [] [] _ hMq14 ⟨q647, q649, qs3, q146, q650⟩ dv7_next rfl ⟨(Nat.le_of_ble_eq_true rfl), (Nat.le_of_ble_eq_true rfl)⟩ (c_recv zcl_7 tb13) (by rw [← eb13]; rfl) (Nat.le_of_ble_eq_true rfl) dX7_fact_41 hczq14 ?_
          refine j_aload_n dX7_fact_44 1 rfl ?_
          refine j_ldc2 (z := 7955827) q840 (by decide) dX7_fact_45 ?_
          obtain ⟨b17, hb17, hf⟩ := ob hf
          obtain ⟨eb17, tb17⟩ := ztg_s hb17
          obtain ⟨x18, hx18, hf⟩ := ob hf
          refine a_Vr [pL 7955827] [] (t7_is (some b17) 7955827 q14.2 hx18) ⟨q787, q789, qs12, q146, q790⟩ dv7_is rfl ⟨(Nat.le_of_ble_eq_true rfl), (Nat.le_of_ble_eq_true rfl)⟩ (c_recv zcl_7 tb17) (by rw [← eb17]; rfl) (Nat.le_of_ble_eq_true rfl) dX7_fact_48 (hcs_ret (x := ()) (r := ()) hcs) ?_
          refine j_if_eq (w32 x18) rfl 71 dX7_fact_51 (by decide) (fun h67 => ?_) (fun h67 => ?_)
          · replace hf := it h67 hf
            refine j_aload_n dX7_fact_71 1 rfl ?_
            refine j_ldc2 (z := 7302757) q879 (by decide) dX7_fact_72 ?_
            obtain ⟨b19, hb19, hf⟩ := ob hf
            obtain ⟨eb19, tb19⟩ := ztg_s hb19
            obtain ⟨x20, hx20, hf⟩ := ob hf
            refine a_Vr [pL 7302757] [] (t7_is (some b19) 7302757 q14.2 hx20) ⟨q787, q789, qs12, q146, q790⟩ dv7_is rfl ⟨(Nat.le_of_ble_eq_true rfl), (Nat.le_of_ble_eq_true rfl)⟩ (c_recv zcl_7 tb19) (by rw [← eb19]; rfl) (Nat.le_of_ble_eq_true rfl) dX7_fact_75 (hcs_ret (x := ()) (r := ()) hcs) ?_
            refine j_if_eq (w32 x20) rfl 99 dX7_fact_78 (by decide) (fun h60 => ?_) (fun h60 => ?_)
            · replace hf := it h60 hf
              refine j_aload_n dX7_fact_99 1 rfl ?_
              refine j_ldc2 (z := 1718775661) q892 (by decide) dX7_fact_100 ?_
              obtain ⟨b21, hb21, hf⟩ := ob hf
              obtain ⟨eb21, tb21⟩ := ztg_s hb21
              obtain ⟨x22, hx22, hf⟩ := ob hf
              refine a_Vr [pL 1718775661] [] (t7_is (some b21) 1718775661 q14.2 hx22) ⟨q787, q789, qs12, q146, q790⟩ dv7_is rfl ⟨(Nat.le_of_ble_eq_true rfl), (Nat.le_of_ble_eq_true rfl)⟩ (c_recv zcl_7 tb21) (by rw [← eb21]; rfl) (Nat.le_of_ble_eq_true rfl) dX7_fact_103 (hcs_ret (x := ()) (r := ()) hcs) ?_
              refine j_if_eq (w32 x22) rfl 180 dX7_fact_106 (by decide) (fun h53 => ?_) (fun h53 => ?_)
              · replace hf := it h53 hf
                obtain ⟨q23, kq23, mq23, k_q23, m_q23, hq23, hf, hkq23, hmq23⟩ := bdU_s hf
                obtain ⟨hczq23, hcs⟩ := hcs_step hcs hkq23 hmq23
                refine c_new (ci := 8) hq23 zcl_8 zmk_8 q667 dX7_fact_180 hczq23 ?_
                refine j_dup dX7_fact_183 rfl ?_
                refine j_iconst dX7_fact_184 ?_
                refine j_aload_n dX7_fact_185 1 rfl ?_
                obtain ⟨x24, hx24, hf⟩ := ob hf
                refine c_geti (ci := 7) (k := 2) hx24 zcl_7 (Nat.le_of_ble_eq_true rfl) zf_X7_43 fk_282 dX7_fact_186 ?_
                obtain ⟨u25, hu25, hf⟩ := ob hf
                refine c_callI [pI 2, pI x24] [pR (some q23.1)] _ (t8_init hfl (some q23.1) 2 x24 q23.2 hu25) ⟨q706, q707, q150, q708, rfl, rfl⟩ dv8_init rfl ⟨(Nat.le_of_ble_eq_true rfl), (Nat.le_of_ble_eq_true rfl)⟩ rfl (Nat.le_of_ble_eq_true rfl) dX7_fact_189 (hcs_ret (x := ()) (r := ()) hcs) ?_
                obtain ⟨ht, hr⟩ := xth_s hf
                rw [hr]
                exact t_athrow ht q794 (hcs_ret (x := ()) (r := ()) hcs) dX7_fact_192
              · replace hf := ie h53 hf
                obtain ⟨q26, kq26, mq26, k_q26, m_q26, hq26, hf, hkq26, hmq26⟩ := bdU_s hf
                obtain ⟨hczq26, hcs⟩ := hcs_step hcs hkq26 hmq26
                refine c_new (ci := 9) hq26 zcl_9 zmk_9 q841 dX7_fact_109 hczq26 ?_
                refine j_dup dX7_fact_112 rfl ?_
                refine j_lload_n dX7_fact_113 0 rfl ?_
                refine j_iconst dX7_fact_114 ?_
                obtain ⟨q27, kq27, mq27, k_q27, m_q27, hq27, hf, hkq27, hmq27⟩ := bdU_s hf
                obtain ⟨hczq27, hcs⟩ := hcs_step hcs hkq27 hmq27
                refine c_callI [pL x8, pI 2] [pR (some q26.1)] _ (t9_init (some q26.1) x8 2 q26.2 hq27) ⟨q843, q844, q152, q845, rfl, rfl⟩ dv9_init rfl ⟨(Nat.le_of_ble_eq_true rfl), (Nat.le_of_ble_eq_true rfl)⟩ rfl (Nat.le_of_ble_eq_true rfl) dX7_fact_115 hczq27 ?_
                refine j_astore_n dX7_fact_118 [(3, pR (some q26.1)), (1, pL x8), (0, pR v0)] (Nat.le_of_ble_eq_true rfl) rfl ?_
                refine j_aload_n dX7_fact_119 2 rfl ?_
                obtain ⟨b28, hb28, hf⟩ := ob hf
                obtain ⟨eb28, tb28⟩ := ztg_s hb28
                obtain ⟨q29, kq29, mq29, k_q29, m_q29, hq29, hf, hkq29, hmq29⟩ := bdU_s hf
                obtain ⟨hczq29, hcs⟩ := hcs_step hcs hkq29 hmq29
                have hMq29 := t7_next (A := A) hfl (some b28) q27 hq29
                rcases zq29 : q29.1 with e30 | x31
                · rw [zq29] at hf hMq29
                  replace hf := telL hf
                  obtain ⟨ht, hr⟩ := xth_s hf
                  rw [hr]
                  exact x_callV [] [] _ hMq29 ⟨q647, q649, qs3, q146, q650⟩ dv7_next rfl ⟨(Nat.le_of_ble_eq_true rfl), (Nat.le_of_ble_eq_true rfl)⟩ (c_recv zcl_7 tb28) (by rw [← eb28]; rfl) (Nat.le_of_ble_eq_true rfl) dX7_fact_120 hczq29 ht q794
                · rw [zq29] at hf hMq29
                  replace hf := telR hf
                  refine t_callV [] [] _ hMq29 ⟨q647, q649, qs3, q146, q650⟩ dv7_next rfl ⟨(Nat.le_of_ble_eq_true rfl), (Nat.le_of_ble_eq_true rfl)⟩ (c_recv zcl_7 tb28) (by rw [← eb28]; rfl) (Nat.le_of_ble_eq_true rfl) dX7_fact_120 hczq29 ?_
                  refine j_aload_n dX7_fact_123 0 rfl ?_
                  refine j_aload_n dX7_fact_124 2 rfl ?_
                  refine j_iconst dX7_fact_125 ?_
                  refine j_ldc (z := 999999999) q893 (by decide) dX7_fact_126 ?_
                  obtain ⟨b32, hb32, hf⟩ := ob hf
                  obtain ⟨eb32, tb32⟩ := ztg_s hb32
                  obtain ⟨q33, kq33, mq33, k_q33, m_q33, hq33, hf, hkq33, hmq33⟩ := bdU_s hf
                  obtain ⟨hczq33, hcs⟩ := hcs_step hcs hkq33 hmq33
                  have hMq33 := t7_number (A := A) hfl (some b32) 0 999999999 q29.2 hq33
                  rcases zq33 : q33.1 with e34 | x35
                  · rw [zq33] at hf hMq33
                    replace hf := telL hf
                    obtain ⟨ht, hr⟩ := xth_s hf
                    rw [hr]
                    exact x_callV [pI 0, pI 999999999] [pR (some q26.1)] _ hMq33 ⟨q894, q896, qs18, q146, q897⟩ dv7_number rfl ⟨(Nat.le_of_ble_eq_true rfl), (Nat.le_of_ble_eq_true rfl)⟩ (c_recv zcl_7 tb32) (by rw [← eb32]; rfl) (Nat.le_of_ble_eq_true rfl) dX7_fact_128 hczq33 ht q794
                  · rw [zq33] at hf hMq33
                    replace hf := telR hf
                    refine t_callV [pI 0, pI 999999999] [pR (some q26.1)] _ hMq33 ⟨q894, q896, qs18, q146, q897⟩ dv7_number rfl ⟨(Nat.le_of_ble_eq_true rfl), (Nat.le_of_ble_eq_true rfl)⟩ (c_recv zcl_7 tb32) (by rw [← eb32]; rfl) (Nat.le_of_ble_eq_true rfl) dX7_fact_128 hczq33 ?_
                    obtain ⟨u36, hu36, hf⟩ := ob hf
                    refine c_putiN (ci := 9) (k := 4) hu36 zcl_9 (Nat.le_of_ble_eq_true rfl) zf_X7_240 fk_364 rfl fits_I dX7_fact_131 ?_
                    refine j_aload_n dX7_fact_134 2 rfl ?_
                    refine j_ldc2 (z := 29807) q898 (by decide) dX7_fact_135 ?_
                    obtain ⟨b37, hb37, hf⟩ := ob hf
                    obtain ⟨eb37, tb37⟩ := ztg_s hb37
                    obtain ⟨x38, hx38, hf⟩ := ob hf
                    refine a_Vr [pL 29807] [] (t7_is (some b37) 29807 u36 hx38) ⟨q787, q789, qs12, q146, q790⟩ dv7_is rfl ⟨(Nat.le_of_ble_eq_true rfl), (Nat.le_of_ble_eq_true rfl)⟩ (c_recv zcl_7 tb37) (by rw [← eb37]; rfl) (Nat.le_of_ble_eq_true rfl) dX7_fact_138 (hcs_ret (x := ()) (r := ()) hcs) ?_
                    refine j_if_ne (w32 x38) rfl 157 dX7_fact_141 (by decide) (fun h52 => ?_) (fun h52 => ?_)
                    · replace hf := ie h52 hf
                      refine j_aload_n dX7_fact_157 2 rfl ?_
                      obtain ⟨b39, hb39, hf⟩ := ob hf
                      obtain ⟨eb39, tb39⟩ := ztg_s hb39
                      obtain ⟨q40, kq40, mq40, k_q40, m_q40, hq40, hf, hkq40, hmq40⟩ := bdU_s hf
                      obtain ⟨hczq40, hcs⟩ := hcs_step hcs hkq40 hmq40
                      have hMq40 := t7_next (A := A) hfl (some b39) u36 hq40
                      rcases zq40 : q40.1 with e41 | x42
                      · rw [zq40] at hf hMq40
                        replace hf := telL hf
                        obtain ⟨ht, hr⟩ := xth_s hf
                        rw [hr]
                        exact x_callV [] [] _ hMq40 ⟨q647, q649, qs3, q146, q650⟩ dv7_next rfl ⟨(Nat.le_of_ble_eq_true rfl), (Nat.le_of_ble_eq_true rfl)⟩ (c_recv zcl_7 tb39) (by rw [← eb39]; rfl) (Nat.le_of_ble_eq_true rfl) dX7_fact_158 hczq40 ht q794
                      · rw [zq40] at hf hMq40
                        replace hf := telR hf
                        refine t_callV [] [] _ hMq40 ⟨q647, q649, qs3, q146, q650⟩ dv7_next rfl ⟨(Nat.le_of_ble_eq_true rfl), (Nat.le_of_ble_eq_true rfl)⟩ (c_recv zcl_7 tb39) (by rw [← eb39]; rfl) (Nat.le_of_ble_eq_true rfl) dX7_fact_158 hczq40 ?_
                        refine j_aload_n dX7_fact_161 0 rfl ?_
                        refine j_aload_n dX7_fact_162 2 rfl ?_
                        refine j_aload_n dX7_fact_163 0 rfl ?_
                        obtain ⟨x43, hx43, hf⟩ := ob hf
                        refine c_getiN (ci := 9) (k := 4) hx43 zcl_9 (Nat.le_of_ble_eq_true rfl) zf_X7_240 fk_364 dX7_fact_164 ?_
                        refine j_iconst dX7_fact_167 ?_
                        refine j_iadd dX7_fact_168 ?_
                        refine j_ldc (z := 999999999) q893 (by decide) dX7_fact_169 ?_
                        obtain ⟨b44, hb44, hf⟩ := ob hf
                        obtain ⟨eb44, tb44⟩ := ztg_s hb44
                        obtain ⟨q45, kq45, mq45, k_q45, m_q45, hq45, hf, hkq45, hmq45⟩ := bdU_s hf
                        obtain ⟨hczq45, hcs⟩ := hcs_step hcs hkq45 hmq45
                        have hMq45 := t7_number (A := A) hfl (some b44) (x43 + 1) 999999999 q40.2 hq45
                        rcases zq45 : q45.1 with e46 | x47
                        · rw [zq45] at hf hMq45
                          replace hf := telL hf
                          obtain ⟨ht, hr⟩ := xth_s hf
                          rw [hr]
                          exact x_callV [pI (x43 + 1), pI 999999999] [pR (some q26.1)] _ hMq45 ⟨q894, q896, qs18, q146, q897⟩ dv7_number rfl ⟨(Nat.le_of_ble_eq_true rfl), (Nat.le_of_ble_eq_true rfl)⟩ (c_recv zcl_7 tb44) (by rw [← eb44]; rfl) (Nat.le_of_ble_eq_true rfl) dX7_fact_171 hczq45 ht q794
                        · rw [zq45] at hf hMq45
                          replace hf := telR hf
                          refine t_callV [pI (x43 + 1), pI 999999999] [pR (some q26.1)] _ hMq45 ⟨q894, q896, qs18, q146, q897⟩ dv7_number rfl ⟨(Nat.le_of_ble_eq_true rfl), (Nat.le_of_ble_eq_true rfl)⟩ (c_recv zcl_7 tb44) (by rw [← eb44]; rfl) (Nat.le_of_ble_eq_true rfl) dX7_fact_171 hczq45 ?_
                          obtain ⟨u48, hu48, hf⟩ := ob hf
                          refine c_putiN (ci := 9) (k := 5) hu48 zcl_9 (Nat.le_of_ble_eq_true rfl) zf_X7_245 fk_365 rfl fits_I dX7_fact_174 ?_
                          refine j_goto 193 dX7_fact_177 (by decide) ?_
                          exact j_sub [2, 0] _ rfl (t7_fact_b193 hfl v0 (some q26.1) u48 hcs hf)
                    · replace hf := it h52 hf
                      obtain ⟨q49, kq49, mq49, k_q49, m_q49, hq49, hf, hkq49, hmq49⟩ := bdU_s hf
                      obtain ⟨hczq49, hcs⟩ := hcs_step hcs hkq49 hmq49
                      refine c_new (ci := 8) hq49 zcl_8 zmk_8 q667 dX7_fact_144 hczq49 ?_
                      refine j_dup dX7_fact_147 rfl ?_
                      refine j_iconst dX7_fact_148 ?_
                      refine j_aload_n dX7_fact_149 2 rfl ?_
                      obtain ⟨x50, hx50, hf⟩ := ob hf
                      refine c_geti (ci := 7) (k := 2) hx50 zcl_7 (Nat.le_of_ble_eq_true rfl) zf_X7_43 fk_282 dX7_fact_150 ?_
                      obtain ⟨u51, hu51, hf⟩ := ob hf
                      refine c_callI [pI 2, pI x50] [pR (some q49.1)] _ (t8_init hfl (some q49.1) 2 x50 q49.2 hu51) ⟨q706, q707, q150, q708, rfl, rfl⟩ dv8_init rfl ⟨(Nat.le_of_ble_eq_true rfl), (Nat.le_of_ble_eq_true rfl)⟩ rfl (Nat.le_of_ble_eq_true rfl) dX7_fact_153 (hcs_ret (x := ()) (r := ()) hcs) ?_
                      obtain ⟨ht, hr⟩ := xth_s hf
                      rw [hr]
                      exact t_athrow ht q794 (hcs_ret (x := ()) (r := ()) hcs) dX7_fact_156
            · replace hf := ie h60 hf
              obtain ⟨q54, kq54, mq54, k_q54, m_q54, hq54, hf, hkq54, hmq54⟩ := bdU_s hf
              obtain ⟨hczq54, hcs⟩ := hcs_step hcs hkq54 hmq54
              refine c_new (ci := 9) hq54 zcl_9 zmk_9 q841 dX7_fact_81 hczq54 ?_
              refine j_dup dX7_fact_84 rfl ?_
              refine j_lload_n dX7_fact_85 0 rfl ?_
              refine j_iconst dX7_fact_86 ?_
              obtain ⟨q55, kq55, mq55, k_q55, m_q55, hq55, hf, hkq55, hmq55⟩ := bdU_s hf
              obtain ⟨hczq55, hcs⟩ := hcs_step hcs hkq55 hmq55
              refine c_callI [pL x8, pI 1] [pR (some q54.1)] _ (t9_init (some q54.1) x8 1 q54.2 hq55) ⟨q843, q844, q152, q845, rfl, rfl⟩ dv9_init rfl ⟨(Nat.le_of_ble_eq_true rfl), (Nat.le_of_ble_eq_true rfl)⟩ rfl (Nat.le_of_ble_eq_true rfl) dX7_fact_87 hczq55 ?_
              refine j_astore_n dX7_fact_90 [(3, pR (some q54.1)), (1, pL x8), (0, pR v0)] (Nat.le_of_ble_eq_true rfl) rfl ?_
              refine j_aload_n dX7_fact_91 2 rfl ?_
              refine j_aload_n dX7_fact_92 0 rfl ?_
              obtain ⟨b56, hb56, hf⟩ := ob hf
              obtain ⟨eb56, tb56⟩ := ztg_s hb56
              obtain ⟨q57, kq57, mq57, k_q57, m_q57, hq57, hf, hkq57, hmq57⟩ := bdU_s hf
              obtain ⟨hczq57, hcs⟩ := hcs_step hcs hkq57 hmq57
              have hMq57 := t7_choices (A := A) hfl (some b56) (some q54.1) q55 hq57
              rcases zq57 : q57.1 with e58 | x59
              · rw [zq57] at hf hMq57
                replace hf := telL hf
                obtain ⟨ht, hr⟩ := xth_s hf
                rw [hr]
                exact x_callV [pR (some q54.1)] [] _ hMq57 ⟨q880, q882, qs16, q146, q883⟩ dv7_choices rfl ⟨(Nat.le_of_ble_eq_true rfl), (Nat.le_of_ble_eq_true rfl)⟩ (c_recv zcl_7 tb56) (by rw [← eb56]; rfl) (Nat.le_of_ble_eq_true rfl) dX7_fact_93 hczq57 ht q794
              · rw [zq57] at hf hMq57
                replace hf := telR hf
                refine t_callV [pR (some q54.1)] [] _ hMq57 ⟨q880, q882, qs16, q146, q883⟩ dv7_choices rfl ⟨(Nat.le_of_ble_eq_true rfl), (Nat.le_of_ble_eq_true rfl)⟩ (c_recv zcl_7 tb56) (by rw [← eb56]; rfl) (Nat.le_of_ble_eq_true rfl) dX7_fact_93 hczq57 ?_
                refine j_goto 193 dX7_fact_96 (by decide) ?_
                exact j_sub [2, 0] _ rfl (t7_fact_b193 hfl v0 (some q54.1) q57.2 hcs hf)
          · replace hf := ie h67 hf
            obtain ⟨q61, kq61, mq61, k_q61, m_q61, hq61, hf, hkq61, hmq61⟩ := bdU_s hf
            obtain ⟨hczq61, hcs⟩ := hcs_step hcs hkq61 hmq61
            refine c_new (ci := 9) hq61 zcl_9 zmk_9 q841 dX7_fact_54 hczq61 ?_
            refine j_dup dX7_fact_57 rfl ?_
            refine j_lload_n dX7_fact_58 0 rfl ?_
            refine j_iconst dX7_fact_59 ?_
            obtain ⟨q62, kq62, mq62, k_q62, m_q62, hq62, hf, hkq62, hmq62⟩ := bdU_s hf
            obtain ⟨hczq62, hcs⟩ := hcs_step hcs hkq62 hmq62
            refine c_callI [pL x8, pI 0] [pR (some q61.1)] _ (t9_init (some q61.1) x8 0 q61.2 hq62) ⟨q843, q844, q152, q845, rfl, rfl⟩ dv9_init rfl ⟨(Nat.le_of_ble_eq_true rfl), (Nat.le_of_ble_eq_true rfl)⟩ rfl (Nat.le_of_ble_eq_true rfl) dX7_fact_60 hczq62 ?_
            refine j_astore_n dX7_fact_63 [(3, pR (some q61.1)), (1, pL x8), (0, pR v0)] (Nat.le_of_ble_eq_true rfl) rfl ?_
            refine j_aload_n dX7_fact_64 2 rfl ?_
            obtain ⟨b63, hb63, hf⟩ := ob hf
            obtain ⟨eb63, tb63⟩ := ztg_s hb63
            obtain ⟨q64, kq64, mq64, k_q64, m_q64, hq64, hf, hkq64, hmq64⟩ := bdU_s hf
            obtain ⟨hczq64, hcs⟩ := hcs_step hcs hkq64 hmq64
            have hMq64 := t7_next (A := A) hfl (some b63) q62 hq64
            rcases zq64 : q64.1 with e65 | x66
            · rw [zq64] at hf hMq64
              replace hf := telL hf
              obtain ⟨ht, hr⟩ := xth_s hf
              rw [hr]
              exact x_callV [] [] _ hMq64 ⟨q647, q649, qs3, q146, q650⟩ dv7_next rfl ⟨(Nat.le_of_ble_eq_true rfl), (Nat.le_of_ble_eq_true rfl)⟩ (c_recv zcl_7 tb63) (by rw [← eb63]; rfl) (Nat.le_of_ble_eq_true rfl) dX7_fact_65 hczq64 ht q794
            · rw [zq64] at hf hMq64
              replace hf := telR hf
              refine t_callV [] [] _ hMq64 ⟨q647, q649, qs3, q146, q650⟩ dv7_next rfl ⟨(Nat.le_of_ble_eq_true rfl), (Nat.le_of_ble_eq_true rfl)⟩ (c_recv zcl_7 tb63) (by rw [← eb63]; rfl) (Nat.le_of_ble_eq_true rfl) dX7_fact_65 hczq64 ?_
              refine j_goto 193 dX7_fact_68 (by decide) ?_
              exact j_sub [2, 0] _ rfl (t7_fact_b193 hfl v0 (some q61.1) q64.2 hcs hf)
      · replace hf := it h71 hf
        obtain ⟨q68, kq68, mq68, k_q68, m_q68, hq68, hf, hkq68, hmq68⟩ := bdU_s hf
        obtain ⟨hczq68, hcs⟩ := hcs_step hcs hkq68 hmq68
        refine c_new (ci := 8) hq68 zcl_8 zmk_8 q667 dX7_fact_26 hczq68 ?_
        refine j_dup dX7_fact_29 rfl ?_
        refine j_bipush dX7_fact_30 (by decide) ?_
        refine j_aload_n dX7_fact_32 1 rfl ?_
        obtain ⟨x69, hx69, hf⟩ := ob hf
        refine c_geti (ci := 7) (k := 2) hx69 zcl_7 (Nat.le_of_ble_eq_true rfl) zf_X7_43 fk_282 dX7_fact_33 ?_
        obtain ⟨u70, hu70, hf⟩ := ob hf
        refine c_callI [pI 6, pI x69] [pR (some q68.1)] _ (t8_init hfl (some q68.1) 6 x69 q68.2 hu70) ⟨q706, q707, q150, q708, rfl, rfl⟩ dv8_init rfl ⟨(Nat.le_of_ble_eq_true rfl), (Nat.le_of_ble_eq_true rfl)⟩ rfl (Nat.le_of_ble_eq_true rfl) dX7_fact_36 (hcs_ret (x := ()) (r := ()) hcs) ?_
        obtain ⟨ht, hr⟩ := xth_s hf
        rw [hr]
        exact t_athrow ht q794 (hcs_ret (x := ()) (r := ()) hcs) dX7_fact_39
theorem t7_isClause {G : CG} {A : Nat → Prop} {l : Launch} {r : Int} (v0 : Option Nat) (u : Sg) (hf : f7_isClause G v0 u = some r) : JM kC (bC G A) A l yX7_isClause D7_isClause [pR v0] u (some (pI r)) u 0 0 := by
  refine j_met (lv0 := [(0, pR v0)]) ⟨pl_X7, rfl, rfl, (Nat.le_of_ble_eq_true rfl), rfl⟩ ?_
  unfold f7_isClause at hf
  refine j_aload_n dX7_isClause_0 0 rfl ?_
  refine j_ldc2 (z := 427071792498) q1050 (by decide) dX7_isClause_1 ?_
  obtain ⟨b1, hb1, hf⟩ := ob hf
  obtain ⟨eb1, tb1⟩ := ztg_s hb1
  obtain ⟨x2, hx2, hf⟩ := ob hf
  refine a_Vr [pL 427071792498] [] (t7_is (some b1) 427071792498 u hx2) ⟨q787, q789, qs12, q146, q790⟩ dv7_is rfl ⟨(Nat.le_of_ble_eq_true rfl), (Nat.le_of_ble_eq_true rfl)⟩ (c_recv zcl_7 tb1) (by rw [← eb1]; rfl) (Nat.le_of_ble_eq_true rfl) dX7_isClause_4 ⟨Nat.le_refl 0, Nat.le_refl 0⟩ ?_
  refine j_if_ne (w32 x2) rfl 30 dX7_isClause_7 (by decide) (fun h9 => ?_) (fun h9 => ?_)
  · replace hf := ie h9 hf
    refine j_iconst dX7_isClause_30 ?_
    refine j_goto 35 dX7_isClause_31 (by decide) ?_
    replace hf := Option.some.inj hf
    subst hf
    exact j_zreturn (x := 1) (bC_mv G A) ⟨Nat.le_refl 0, Nat.le_refl 0⟩ (ty := .boolean) rfl (nar_z (Or.inr rfl)) dX7_isClause_35
  · replace hf := it h9 hf
    refine j_aload_n dX7_isClause_10 0 rfl ?_
    refine j_ldc2 (z := 465557354085) q1051 (by decide) dX7_isClause_11 ?_
    obtain ⟨b3, hb3, hf⟩ := ob hf
    obtain ⟨eb3, tb3⟩ := ztg_s hb3
    obtain ⟨x4, hx4, hf⟩ := ob hf
    refine a_Vr [pL 465557354085] [] (t7_is (some b3) 465557354085 u hx4) ⟨q787, q789, qs12, q146, q790⟩ dv7_is rfl ⟨(Nat.le_of_ble_eq_true rfl), (Nat.le_of_ble_eq_true rfl)⟩ (c_recv zcl_7 tb3) (by rw [← eb3]; rfl) (Nat.le_of_ble_eq_true rfl) dX7_isClause_14 ⟨Nat.le_refl 0, Nat.le_refl 0⟩ ?_
    refine j_if_ne (w32 x4) rfl 30 dX7_isClause_17 (by decide) (fun h8 => ?_) (fun h8 => ?_)
    · replace hf := ie h8 hf
      refine j_iconst dX7_isClause_30 ?_
      refine j_goto 35 dX7_isClause_31 (by decide) ?_
      replace hf := Option.some.inj hf
      subst hf
      exact j_zreturn (x := 1) (bC_mv G A) ⟨Nat.le_refl 0, Nat.le_refl 0⟩ (ty := .boolean) rfl (nar_z (Or.inr rfl)) dX7_isClause_35
    · replace hf := it h8 hf
      refine j_aload_n dX7_isClause_20 0 rfl ?_
      refine j_ldc2 (z := 1650549611) q1052 (by decide) dX7_isClause_21 ?_
      obtain ⟨b5, hb5, hf⟩ := ob hf
      obtain ⟨eb5, tb5⟩ := ztg_s hb5
      obtain ⟨x6, hx6, hf⟩ := ob hf
      refine a_Vr [pL 1650549611] [] (t7_is (some b5) 1650549611 u hx6) ⟨q787, q789, qs12, q146, q790⟩ dv7_is rfl ⟨(Nat.le_of_ble_eq_true rfl), (Nat.le_of_ble_eq_true rfl)⟩ (c_recv zcl_7 tb5) (by rw [← eb5]; rfl) (Nat.le_of_ble_eq_true rfl) dX7_isClause_24 ⟨Nat.le_refl 0, Nat.le_refl 0⟩ ?_
      refine j_if_eq (w32 x6) rfl 34 dX7_isClause_27 (by decide) (fun h7 => ?_) (fun h7 => ?_)
      · replace hf := it h7 hf
        refine j_iconst dX7_isClause_34 ?_
        replace hf := Option.some.inj hf
        subst hf
        exact j_zreturn (x := 0) (bC_mv G A) ⟨Nat.le_refl 0, Nat.le_refl 0⟩ (ty := .boolean) rfl (nar_z (Or.inl rfl)) dX7_isClause_35
      · replace hf := ie h7 hf
        refine j_iconst dX7_isClause_30 ?_
        refine j_goto 35 dX7_isClause_31 (by decide) ?_
        replace hf := Option.some.inj hf
        subst hf
        exact j_zreturn (x := 1) (bC_mv G A) ⟨Nat.le_refl 0, Nat.le_refl 0⟩ (ty := .boolean) rfl (nar_z (Or.inr rfl)) dX7_isClause_35
theorem t7_meaning {G : CG} {A : Nat → Prop} {l : Launch} (hfl : l.stackTraces = false) {r : (Nat ⊕ (Unit)) × Sg} {c0 n0 : Nat} (v0 : Option Nat) (u : Sg) (hf : f7_meaning G v0 u = some (r, c0, n0)) : JMT G A l yX7_meaning D7_meaning [pR v0] u (omV r.1) r.2 c0 n0 := by
  refine t_met (lv0 := [(0, pR v0)]) ⟨pl_X7, rfl, rfl, (Nat.le_of_ble_eq_true rfl), rfl⟩ ?_
  have hcs : 0 + c0 ≤ c0 ∧ 0 + n0 ≤ n0 := ⟨by omega, by omega⟩
  unfold f7_meaning at hf
  refine j_aload_n dX7_meaning_0 0 rfl ?_
  obtain ⟨b1, hb1, hf⟩ := ob hf
  obtain ⟨eb1, tb1⟩ := ztg_s hb1
  obtain ⟨q2, kq2, mq2, k_q2, m_q2, hq2, hf, hkq2, hmq2⟩ := bdU_s hf
  obtain ⟨hczq2, hcs⟩ := hcs_step hcs hkq2 hmq2
  have hMq2 := t7_next (A := A) hfl (some b1) u hq2
  rcases zq2 : q2.1 with e3 | x4
  · rw [zq2] at hf hMq2
    replace hf := telL hf
    obtain ⟨ht, hr⟩ := xth_s hf
    rw [hr]
    exact x_callV [] [] _ hMq2 ⟨q647, q649, qs3, q146, q650⟩ dv7_next rfl ⟨(Nat.le_of_ble_eq_true rfl), (Nat.le_of_ble_eq_true rfl)⟩ (c_recv zcl_7 tb1) (by rw [← eb1]; rfl) (Nat.le_of_ble_eq_true rfl) dX7_meaning_1 hczq2 ht q909
  · rw [zq2] at hf hMq2
    replace hf := telR hf
    refine t_callV [] [] _ hMq2 ⟨q647, q649, qs3, q146, q650⟩ dv7_next rfl ⟨(Nat.le_of_ble_eq_true rfl), (Nat.le_of_ble_eq_true rfl)⟩ (c_recv zcl_7 tb1) (by rw [← eb1]; rfl) (Nat.le_of_ble_eq_true rfl) dX7_meaning_1 hczq2 ?_
    refine j_aload_n dX7_meaning_4 0 rfl ?_
    obtain ⟨b5, hb5, hf⟩ := ob hf
    obtain ⟨eb5, tb5⟩ := ztg_s hb5
    obtain ⟨q6, kq6, mq6, k_q6, m_q6, hq6, hf, hkq6, hmq6⟩ := bdU_s hf
    obtain ⟨hczq6, hcs⟩ := hcs_step hcs hkq6 hmq6
    have hMq6 := t7_newName (A := A) hfl (some b5) q2.2 hq6
    rcases zq6 : q6.1 with e7 | x8
    · rw [zq6] at hf hMq6
      replace hf := telL hf
      obtain ⟨ht, hr⟩ := xth_s hf
      rw [hr]
      exact x_callV [] [] _ hMq6 ⟨q795, q797, qs14, q146, q798⟩ dv7_newName rfl ⟨(Nat.le_of_ble_eq_true rfl), (Nat.le_of_ble_eq_true rfl)⟩ (c_recv zcl_7 tb5) (by rw [← eb5]; rfl) (Nat.le_of_ble_eq_true rfl) dX7_meaning_5 hczq6 ht q909
    · rw [zq6] at hf hMq6
      replace hf := telR hf
      refine t_callV [] [] _ hMq6 ⟨q795, q797, qs14, q146, q798⟩ dv7_newName rfl ⟨(Nat.le_of_ble_eq_true rfl), (Nat.le_of_ble_eq_true rfl)⟩ (c_recv zcl_7 tb5) (by rw [← eb5]; rfl) (Nat.le_of_ble_eq_true rfl) dX7_meaning_5 hczq6 ?_
      refine j_lstore_n dX7_meaning_8 [(1, pL x8), (0, pR v0)] (Nat.le_of_ble_eq_true rfl) rfl ?_
      refine j_aload_n dX7_meaning_9 1 rfl ?_
      obtain ⟨x9, hx9, hf⟩ := ob hf
      refine c_geta (ci := 7) (k := 6) hx9 zcl_7 (Nat.le_of_ble_eq_true rfl) zf_X7_15 fk_286 dX7_meaning_10 ?_
      obtain ⟨x10, hx10, hf⟩ := ob hf
      refine c_getaN (ci := 6) (k := 2) hx10 zcl_6 (Nat.le_of_ble_eq_true rfl) zf_X7_253 fk_242 dX7_meaning_13 ?_
      obtain ⟨b11, hb11, hf⟩ := ob hf
      obtain ⟨eb11, tb11⟩ := ztg_s hb11
      obtain ⟨x12, hx12, hf⟩ := ob hf
      refine a_Fr (x := ix_0) [] [] (tJ2_size (some b11) q6.2 hx12) ⟨q839, q559, q561, q131, q563⟩ iF_0 df_0 rfl ⟨(Nat.le_of_ble_eq_true rfl), (Nat.le_of_ble_eq_true rfl)⟩ zcl_5 rfl tb11 (by rw [← eb11]; rfl) (Nat.le_of_ble_eq_true rfl) dX7_meaning_16 (hcs_ret (x := ()) (r := ()) hcs) ?_
      refine j_bipush dX7_meaning_21 (by decide) ?_
      refine j_icmp_ne (w32 x12) 12 rfl rfl 40 dX7_meaning_23 (by decide) (fun h46 => ?_) (fun h46 => ?_)
      · replace hf := ie h46 hf
        refine j_aload_n dX7_meaning_40 1 rfl ?_
        obtain ⟨b13, hb13, hf⟩ := ob hf
        obtain ⟨eb13, tb13⟩ := ztg_s hb13
        obtain ⟨q14, kq14, mq14, k_q14, m_q14, hq14, hf, hkq14, hmq14⟩ := bdU_s hf
        obtain ⟨hczq14, hcs⟩ := hcs_step hcs hkq14 hmq14
        have hMq14 := t7_next (A := A) hfl (some b13) q6.2 hq14
        rcases zq14 : q14.1 with e15 | x16
        · rw [zq14] at hf hMq14
          replace hf := telL hf
          obtain ⟨ht, hr⟩ := xth_s hf
          rw [hr]
          exact x_callV [] [] _ hMq14 ⟨q647, q649, qs3, q146, q650⟩ dv7_next rfl ⟨(Nat.le_of_ble_eq_true rfl), (Nat.le_of_ble_eq_true rfl)⟩ (c_recv zcl_7 tb13) (by rw [← eb13]; rfl) (Nat.le_of_ble_eq_true rfl) dX7_meaning_41 hczq14 ht q909
        · rw [zq14] at hf hMq14
          replace hf := telR hf
          refine t_callV [] [] _ hMq14 ⟨q647, q649, qs3, q146, q650⟩ dv7_next rfl ⟨(Nat.le_of_ble_eq_true rfl), (Nat.le_of_ble_eq_true rfl)⟩ (c_recv zcl_7 tb13) (by rw [← eb13]; rfl) (Nat.le_of_ble_eq_true rfl) dX7_meaning_41 hczq14 ?_
          refine j_aload_n dX7_meaning_44 1 rfl ?_
          refine j_bipush dX7_meaning_45 (by decide) ?_
          obtain ⟨b17, hb17, hf⟩ := ob hf
          obtain ⟨eb17, tb17⟩ := ztg_s hb17
          obtain ⟨q18, kq18, mq18, k_q18, m_q18, hq18, hf, hkq18, hmq18⟩ := bdU_s hf
          obtain ⟨hczq18, hcs⟩ := hcs_step hcs hkq18 hmq18
          have hMq18 := t7_want (A := A) hfl (some b17) 61 q14.2 hq18
          rcases zq18 : q18.1 with e19 | x20
          · rw [zq18] at hf hMq18
            replace hf := telL hf
            obtain ⟨ht, hr⟩ := xth_s hf
            rw [hr]
            exact x_callV [pI 61] [] _ hMq18 ⟨q899, q901, qs19, q146, q902⟩ dv7_want rfl ⟨(Nat.le_of_ble_eq_true rfl), (Nat.le_of_ble_eq_true rfl)⟩ (c_recv zcl_7 tb17) (by rw [← eb17]; rfl) (Nat.le_of_ble_eq_true rfl) dX7_meaning_47 hczq18 ht q909
          · rw [zq18] at hf hMq18
            replace hf := telR hf
            refine t_callV [pI 61] [] _ hMq18 ⟨q899, q901, qs19, q146, q902⟩ dv7_want rfl ⟨(Nat.le_of_ble_eq_true rfl), (Nat.le_of_ble_eq_true rfl)⟩ (c_recv zcl_7 tb17) (by rw [← eb17]; rfl) (Nat.le_of_ble_eq_true rfl) dX7_meaning_47 hczq18 ?_
            refine j_aload_n dX7_meaning_50 1 rfl ?_
            obtain ⟨x21, hx21, hf⟩ := ob hf
            refine c_geti (ci := 7) (k := 8) hx21 zcl_7 (Nat.le_of_ble_eq_true rfl) zf_X7_84 fk_288 dX7_meaning_51 ?_
            refine j_istore_n dX7_meaning_54 [(3, pI x21), (1, pL x8), (0, pR v0)] (Nat.le_of_ble_eq_true rfl) rfl ?_
            refine j_aload_n dX7_meaning_55 2 rfl ?_
            obtain ⟨b22, hb22, hf⟩ := ob hf
            obtain ⟨eb22, tb22⟩ := ztg_s hb22
            obtain ⟨q23, kq23, mq23, k_q23, m_q23, hq23, hf, hkq23, hmq23⟩ := bdU_s hf
            obtain ⟨hczq23, hcs⟩ := hcs_step hcs hkq23 hmq23
            have hMq23 := (tr_all (A := A) hfl 100).1 (some b22) q18.2 q23 kq23 mq23 hq23
            rcases zq23 : q23.1 with e24 | x25
            · rw [zq23] at hf hMq23
              replace hf := telL hf
              obtain ⟨ht, hr⟩ := xth_s hf
              rw [hr]
              exact x_callV [] [] _ hMq23 ⟨q910, q912, qs21, q146, q913⟩ dv7_cond rfl ⟨(Nat.le_of_ble_eq_true rfl), (Nat.le_of_ble_eq_true rfl)⟩ (c_recv zcl_7 tb22) (by rw [← eb22]; rfl) (Nat.le_of_ble_eq_true rfl) dX7_meaning_56 hczq23 ht q909
            · rw [zq23] at hf hMq23
              replace hf := telR hf
              refine t_callV [] [] _ hMq23 ⟨q910, q912, qs21, q146, q913⟩ dv7_cond rfl ⟨(Nat.le_of_ble_eq_true rfl), (Nat.le_of_ble_eq_true rfl)⟩ (c_recv zcl_7 tb22) (by rw [← eb22]; rfl) (Nat.le_of_ble_eq_true rfl) dX7_meaning_56 hczq23 ?_
              refine j_astore dX7_meaning_59 [(4, pR x25), (3, pI x21), (1, pL x8), (0, pR v0)] (Nat.le_of_ble_eq_true rfl) rfl ?_
              refine j_aload_n dX7_meaning_61 3 rfl ?_
              refine j_bipush dX7_meaning_62 (by decide) ?_
              obtain ⟨b26, hb26, hf⟩ := ob hf
              obtain ⟨eb26, tb26⟩ := ztg_s hb26
              obtain ⟨q27, kq27, mq27, k_q27, m_q27, hq27, hf, hkq27, hmq27⟩ := bdU_s hf
              obtain ⟨hczq27, hcs⟩ := hcs_step hcs hkq27 hmq27
              have hMq27 := t7_want (A := A) hfl (some b26) 59 q23.2 hq27
              rcases zq27 : q27.1 with e28 | x29
              · rw [zq27] at hf hMq27
                replace hf := telL hf
                obtain ⟨ht, hr⟩ := xth_s hf
                rw [hr]
                exact x_callV [pI 59] [] _ hMq27 ⟨q899, q901, qs19, q146, q902⟩ dv7_want rfl ⟨(Nat.le_of_ble_eq_true rfl), (Nat.le_of_ble_eq_true rfl)⟩ (c_recv zcl_7 tb26) (by rw [← eb26]; rfl) (Nat.le_of_ble_eq_true rfl) dX7_meaning_64 hczq27 ht q909
              · rw [zq27] at hf hMq27
                replace hf := telR hf
                refine t_callV [pI 59] [] _ hMq27 ⟨q899, q901, qs19, q146, q902⟩ dv7_want rfl ⟨(Nat.le_of_ble_eq_true rfl), (Nat.le_of_ble_eq_true rfl)⟩ (c_recv zcl_7 tb26) (by rw [← eb26]; rfl) (Nat.le_of_ble_eq_true rfl) dX7_meaning_64 hczq27 ?_
                refine j_aload_n dX7_meaning_67 3 rfl ?_
                obtain ⟨x30, hx30, hf⟩ := ob hf
                refine c_geta (ci := 7) (k := 6) hx30 zcl_7 (Nat.le_of_ble_eq_true rfl) zf_X7_15 fk_286 dX7_meaning_68 ?_
                refine j_dup dX7_meaning_71 rfl ?_
                obtain ⟨x31, hx31, hf⟩ := ob hf
                refine c_getiN (ci := 6) (k := 8) hx31 zcl_6 (Nat.le_of_ble_eq_true rfl) zf_X7_256 fk_248 dX7_meaning_72 ?_
                refine j_aload_n dX7_meaning_75 3 rfl ?_
                obtain ⟨x32, hx32, hf⟩ := ob hf
                refine c_geti (ci := 7) (k := 8) hx32 zcl_7 (Nat.le_of_ble_eq_true rfl) zf_X7_84 fk_288 dX7_meaning_76 ?_
                refine j_iload_n dX7_meaning_79 1 rfl ?_
                refine j_isub dX7_meaning_80 ?_
                refine j_iadd dX7_meaning_81 ?_
                obtain ⟨u33, hu33, hf⟩ := ob hf
                refine c_putiN (ci := 6) (k := 8) hu33 zcl_6 (Nat.le_of_ble_eq_true rfl) zf_X7_256 fk_248 rfl fits_I dX7_meaning_82 ?_
                refine j_aload_n dX7_meaning_85 3 rfl ?_
                obtain ⟨x34, hx34, hf⟩ := ob hf
                refine c_geta (ci := 7) (k := 6) hx34 zcl_7 (Nat.le_of_ble_eq_true rfl) zf_X7_15 fk_286 dX7_meaning_86 ?_
                obtain ⟨x35, hx35, hf⟩ := ob hf
                refine c_getaN (ci := 6) (k := 1) hx35 zcl_6 (Nat.le_of_ble_eq_true rfl) zf_X7_259 fk_241 dX7_meaning_89 ?_
                refine j_lload_n dX7_meaning_92 2 rfl ?_
                obtain ⟨q36, kq36, mq36, k_q36, m_q36, hq36, hf, hkq36, hmq36⟩ := bdU_s hf
                obtain ⟨hczq36, hcs⟩ := hcs_step hcs hkq36 hmq36
                refine a_Sr [pL x8] [pR x35] (tJ15_valueOf x8 u33 hq36) ⟨q1026, q1027, q162, q1028⟩ dvJ15_valueOf rfl ⟨(Nat.le_of_ble_eq_true rfl), (Nat.le_of_ble_eq_true rfl)⟩ rfl (Nat.le_of_ble_eq_true rfl) dX7_meaning_93 hczq36 ?_
                obtain ⟨b37, hb37, hf⟩ := ob hf
                obtain ⟨eb37, tb37⟩ := ztg_s hb37
                obtain ⟨q38, kq38, mq38, k_q38, m_q38, hq38, hf, hkq38, hmq38⟩ := bdU_s hf
                obtain ⟨hczq38, hcs⟩ := hcs_step hcs hkq38 hmq38
                refine a_Fr (x := ix_2) [pR q36.1] [] (tJ2_add (some b37) q36.1 q36.2 hq38) ⟨q904, q325, q327, q131, q329⟩ iF_2 df_2 rfl ⟨(Nat.le_of_ble_eq_true rfl), (Nat.le_of_ble_eq_true rfl)⟩ zcl_5 rfl tb37 (by rw [← eb37]; rfl) (Nat.le_of_ble_eq_true rfl) dX7_meaning_96 hczq38 ?_
                refine j_pop dX7_meaning_101 rfl ?_
                refine j_aload_n dX7_meaning_102 3 rfl ?_
                obtain ⟨x39, hx39, hf⟩ := ob hf
                refine c_geta (ci := 7) (k := 6) hx39 zcl_7 (Nat.le_of_ble_eq_true rfl) zf_X7_15 fk_286 dX7_meaning_103 ?_
                obtain ⟨x40, hx40, hf⟩ := ob hf
                refine c_getaN (ci := 6) (k := 2) hx40 zcl_6 (Nat.le_of_ble_eq_true rfl) zf_X7_253 fk_242 dX7_meaning_106 ?_
                refine j_aload dX7_meaning_109 0 rfl ?_
                obtain ⟨b41, hb41, hf⟩ := ob hf
                obtain ⟨eb41, tb41⟩ := ztg_s hb41
                obtain ⟨q42, kq42, mq42, k_q42, m_q42, hq42, hf, hkq42, hmq42⟩ := bdU_s hf
                obtain ⟨hczq42, hcs⟩ := hcs_step hcs hkq42 hmq42
                refine a_Fr (x := ix_2) [pR x25] [] (tJ2_add (some b41) x25 q38.2 hq42) ⟨q904, q325, q327, q131, q329⟩ iF_2 df_2 rfl ⟨(Nat.le_of_ble_eq_true rfl), (Nat.le_of_ble_eq_true rfl)⟩ zcl_5 rfl tb41 (by rw [← eb41]; rfl) (Nat.le_of_ble_eq_true rfl) dX7_meaning_111 hczq42 ?_
                refine j_pop dX7_meaning_116 rfl ?_
                replace hf := retU hf
                subst hf
                exact t_ofret (j_return (bC_mv G A) (hcs_ret (x := ()) (r := ()) hcs) rfl dX7_meaning_117)
      · replace hf := it h46 hf
        obtain ⟨q43, kq43, mq43, k_q43, m_q43, hq43, hf, hkq43, hmq43⟩ := bdU_s hf
        obtain ⟨hczq43, hcs⟩ := hcs_step hcs hkq43 hmq43
        refine c_new (ci := 8) hq43 zcl_8 zmk_8 q667 dX7_meaning_26 hczq43 ?_
        refine j_dup dX7_meaning_29 rfl ?_
        refine j_bipush dX7_meaning_30 (by decide) ?_
        refine j_aload_n dX7_meaning_32 1 rfl ?_
        obtain ⟨x44, hx44, hf⟩ := ob hf
        refine c_geti (ci := 7) (k := 2) hx44 zcl_7 (Nat.le_of_ble_eq_true rfl) zf_X7_43 fk_282 dX7_meaning_33 ?_
        obtain ⟨u45, hu45, hf⟩ := ob hf
        refine c_callI [pI 6, pI x44] [pR (some q43.1)] _ (t8_init hfl (some q43.1) 6 x44 q43.2 hu45) ⟨q706, q707, q150, q708, rfl, rfl⟩ dv8_init rfl ⟨(Nat.le_of_ble_eq_true rfl), (Nat.le_of_ble_eq_true rfl)⟩ rfl (Nat.le_of_ble_eq_true rfl) dX7_meaning_36 (hcs_ret (x := ()) (r := ()) hcs) ?_
        obtain ⟨ht, hr⟩ := xth_s hf
        rw [hr]
        exact t_athrow ht q909 (hcs_ret (x := ()) (r := ()) hcs) dX7_meaning_39
theorem t7_most_b56 {G : CG} {A : Nat → Prop} {l : Launch} {a : List PV} {mc ms ce sl : Nat} (hfl : l.stackTraces = false) {r : (Nat ⊕ (Unit)) × Sg} {c0 n0 : Nat} (v0 : Option Nat) (v1 : Int) (s0 : Int) (u : Sg) (hcs : ce + c0 ≤ mc ∧ sl + n0 ≤ ms) (hf : f7_most_b56 G v0 v1 s0 u = some (r, c0, n0)) : JW kC (bC G A) A l D7_most a (tQQ yX7_most G A a (omV r.1) r.2 mc ms) mc ms u ce sl 56 [(0, pR v0), (1, pI v1)] [pI s0] := by
  unfold f7_most_b56 at hf
  refine j_istore_n dX7_most_56 [(2, pI s0), (0, pR v0), (1, pI v1)] (Nat.le_of_ble_eq_true rfl) rfl ?_
  refine j_iload_n dX7_most_57 0 rfl ?_
  refine j_if_ge (w32 s0) rfl 74 dX7_most_58 (by decide) (fun h22 => ?_) (fun h22 => ?_)
  · replace hf := it h22 hf
    refine j_aload_n dX7_most_74 1 rfl ?_
    obtain ⟨x1, hx1, hf⟩ := ob hf
    refine c_geta (ci := 7) (k := 6) hx1 zcl_7 (Nat.le_of_ble_eq_true rfl) zf_X7_15 fk_286 dX7_most_75 ?_
    obtain ⟨x2, hx2, hf⟩ := ob hf
    refine c_getaN (ci := 6) (k := 7) hx2 zcl_6 (Nat.le_of_ble_eq_true rfl) zf_X7_275 fk_247 dX7_most_78 ?_
    refine j_iload_n dX7_most_81 0 rfl ?_
    obtain ⟨x3, hx3, hf⟩ := ob hf
    refine c_iald hx3 dX7_most_82 ?_
    refine j_if_lt (w32 x3) rfl 100 dX7_most_83 (by decide) (fun h18 => ?_) (fun h18 => ?_)
    · replace hf := it h18 hf
      refine j_aload_n dX7_most_100 1 rfl ?_
      obtain ⟨b4, hb4, hf⟩ := ob hf
      obtain ⟨eb4, tb4⟩ := ztg_s hb4
      obtain ⟨q5, kq5, mq5, k_q5, m_q5, hq5, hf, hkq5, hmq5⟩ := bdU_s hf
      obtain ⟨hczq5, hcs⟩ := hcs_step hcs hkq5 hmq5
      have hMq5 := t7_next (A := A) hfl (some b4) u hq5
      rcases zq5 : q5.1 with e6 | x7
      · rw [zq5] at hf hMq5
        replace hf := telL hf
        obtain ⟨ht, hr⟩ := xth_s hf
        rw [hr]
        exact x_callV [] [] _ hMq5 ⟨q647, q649, qs3, q146, q650⟩ dv7_next rfl ⟨(Nat.le_of_ble_eq_true rfl), (Nat.le_of_ble_eq_true rfl)⟩ (c_recv zcl_7 tb4) (by rw [← eb4]; rfl) (Nat.le_of_ble_eq_true rfl) dX7_most_101 hczq5 ht q1088
      · rw [zq5] at hf hMq5
        replace hf := telR hf
        refine t_callV [] [] _ hMq5 ⟨q647, q649, qs3, q146, q650⟩ dv7_next rfl ⟨(Nat.le_of_ble_eq_true rfl), (Nat.le_of_ble_eq_true rfl)⟩ (c_recv zcl_7 tb4) (by rw [← eb4]; rfl) (Nat.le_of_ble_eq_true rfl) dX7_most_101 hczq5 ?_
        refine j_aload_n dX7_most_104 1 rfl ?_
        refine j_bipush dX7_most_105 (by decide) ?_
        obtain ⟨b8, hb8, hf⟩ := ob hf
        obtain ⟨eb8, tb8⟩ := ztg_s hb8
        obtain ⟨q9, kq9, mq9, k_q9, m_q9, hq9, hf, hkq9, hmq9⟩ := bdU_s hf
        obtain ⟨hczq9, hcs⟩ := hcs_step hcs hkq9 hmq9
        have hMq9 := t7_want (A := A) hfl (some b8) 59 q5.2 hq9
        rcases zq9 : q9.1 with e10 | x11
        · rw [zq9] at hf hMq9
          replace hf := telL hf
          obtain ⟨ht, hr⟩ := xth_s hf
          rw [hr]
          exact x_callV [pI 59] [] _ hMq9 ⟨q899, q901, qs19, q146, q902⟩ dv7_want rfl ⟨(Nat.le_of_ble_eq_true rfl), (Nat.le_of_ble_eq_true rfl)⟩ (c_recv zcl_7 tb8) (by rw [← eb8]; rfl) (Nat.le_of_ble_eq_true rfl) dX7_most_107 hczq9 ht q1088
        · rw [zq9] at hf hMq9
          replace hf := telR hf
          refine t_callV [pI 59] [] _ hMq9 ⟨q899, q901, qs19, q146, q902⟩ dv7_want rfl ⟨(Nat.le_of_ble_eq_true rfl), (Nat.le_of_ble_eq_true rfl)⟩ (c_recv zcl_7 tb8) (by rw [← eb8]; rfl) (Nat.le_of_ble_eq_true rfl) dX7_most_107 hczq9 ?_
          refine j_aload_n dX7_most_110 1 rfl ?_
          obtain ⟨x12, hx12, hf⟩ := ob hf
          refine c_geta (ci := 7) (k := 6) hx12 zcl_7 (Nat.le_of_ble_eq_true rfl) zf_X7_15 fk_286 dX7_most_111 ?_
          obtain ⟨x13, hx13, hf⟩ := ob hf
          refine c_getaN (ci := 6) (k := 7) hx13 zcl_6 (Nat.le_of_ble_eq_true rfl) zf_X7_275 fk_247 dX7_most_114 ?_
          refine j_iload_n dX7_most_117 0 rfl ?_
          refine j_iload_n dX7_most_118 2 rfl ?_
          obtain ⟨u14, hu14, hf⟩ := ob hf
          refine c_iast hu14 dX7_most_119 ?_
          replace hf := retU hf
          subst hf
          exact t_ofret (j_return (bC_mv G A) (hcs_ret (x := ()) (r := ()) hcs) rfl dX7_most_120)
    · replace hf := ie h18 hf
      obtain ⟨q15, kq15, mq15, k_q15, m_q15, hq15, hf, hkq15, hmq15⟩ := bdU_s hf
      obtain ⟨hczq15, hcs⟩ := hcs_step hcs hkq15 hmq15
      refine c_new (ci := 8) hq15 zcl_8 zmk_8 q667 dX7_most_86 hczq15 ?_
      refine j_dup dX7_most_89 rfl ?_
      refine j_bipush dX7_most_90 (by decide) ?_
      refine j_aload_n dX7_most_92 1 rfl ?_
      obtain ⟨x16, hx16, hf⟩ := ob hf
      refine c_geti (ci := 7) (k := 2) hx16 zcl_7 (Nat.le_of_ble_eq_true rfl) zf_X7_43 fk_282 dX7_most_93 ?_
      obtain ⟨u17, hu17, hf⟩ := ob hf
      refine c_callI [pI 6, pI x16] [pR (some q15.1)] _ (t8_init hfl (some q15.1) 6 x16 q15.2 hu17) ⟨q706, q707, q150, q708, rfl, rfl⟩ dv8_init rfl ⟨(Nat.le_of_ble_eq_true rfl), (Nat.le_of_ble_eq_true rfl)⟩ rfl (Nat.le_of_ble_eq_true rfl) dX7_most_96 (hcs_ret (x := ()) (r := ()) hcs) ?_
      obtain ⟨ht, hr⟩ := xth_s hf
      rw [hr]
      exact t_athrow ht q1088 (hcs_ret (x := ()) (r := ()) hcs) dX7_most_99
  · replace hf := ie h22 hf
    obtain ⟨q19, kq19, mq19, k_q19, m_q19, hq19, hf, hkq19, hmq19⟩ := bdU_s hf
    obtain ⟨hczq19, hcs⟩ := hcs_step hcs hkq19 hmq19
    refine c_new (ci := 8) hq19 zcl_8 zmk_8 q667 dX7_most_61 hczq19 ?_
    refine j_dup dX7_most_64 rfl ?_
    refine j_iconst dX7_most_65 ?_
    refine j_aload_n dX7_most_66 1 rfl ?_
    obtain ⟨x20, hx20, hf⟩ := ob hf
    refine c_geti (ci := 7) (k := 2) hx20 zcl_7 (Nat.le_of_ble_eq_true rfl) zf_X7_43 fk_282 dX7_most_67 ?_
    obtain ⟨u21, hu21, hf⟩ := ob hf
    refine c_callI [pI 2, pI x20] [pR (some q19.1)] _ (t8_init hfl (some q19.1) 2 x20 q19.2 hu21) ⟨q706, q707, q150, q708, rfl, rfl⟩ dv8_init rfl ⟨(Nat.le_of_ble_eq_true rfl), (Nat.le_of_ble_eq_true rfl)⟩ rfl (Nat.le_of_ble_eq_true rfl) dX7_most_70 (hcs_ret (x := ()) (r := ()) hcs) ?_
    obtain ⟨ht, hr⟩ := xth_s hf
    rw [hr]
    exact t_athrow ht q1088 (hcs_ret (x := ()) (r := ()) hcs) dX7_most_73
theorem t7_most {G : CG} {A : Nat → Prop} {l : Launch} (hfl : l.stackTraces = false) {r : (Nat ⊕ (Unit)) × Sg} {c0 n0 : Nat} (v0 : Option Nat) (u : Sg) (hf : f7_most G v0 u = some (r, c0, n0)) : JMT G A l yX7_most D7_most [pR v0] u (omV r.1) r.2 c0 n0 := by
  refine t_met (lv0 := [(0, pR v0)]) ⟨pl_X7, rfl, rfl, (Nat.le_of_ble_eq_true rfl), rfl⟩ ?_
  have hcs : 0 + c0 ≤ c0 ∧ 0 + n0 ≤ n0 := ⟨by omega, by omega⟩
  unfold f7_most at hf
  refine j_aload_n dX7_most_0 0 rfl ?_
  obtain ⟨b1, hb1, hf⟩ := ob hf
  obtain ⟨eb1, tb1⟩ := ztg_s hb1
  obtain ⟨q2, kq2, mq2, k_q2, m_q2, hq2, hf, hkq2, hmq2⟩ := bdU_s hf
  obtain ⟨hczq2, hcs⟩ := hcs_step hcs hkq2 hmq2
  have hMq2 := t7_next (A := A) hfl (some b1) u hq2
  rcases zq2 : q2.1 with e3 | x4
  · rw [zq2] at hf hMq2
    replace hf := telL hf
    obtain ⟨ht, hr⟩ := xth_s hf
    rw [hr]
    exact x_callV [] [] _ hMq2 ⟨q647, q649, qs3, q146, q650⟩ dv7_next rfl ⟨(Nat.le_of_ble_eq_true rfl), (Nat.le_of_ble_eq_true rfl)⟩ (c_recv zcl_7 tb1) (by rw [← eb1]; rfl) (Nat.le_of_ble_eq_true rfl) dX7_most_1 hczq2 ht q1088
  · rw [zq2] at hf hMq2
    replace hf := telR hf
    refine t_callV [] [] _ hMq2 ⟨q647, q649, qs3, q146, q650⟩ dv7_next rfl ⟨(Nat.le_of_ble_eq_true rfl), (Nat.le_of_ble_eq_true rfl)⟩ (c_recv zcl_7 tb1) (by rw [← eb1]; rfl) (Nat.le_of_ble_eq_true rfl) dX7_most_1 hczq2 ?_
    refine j_aload_n dX7_most_4 0 rfl ?_
    refine j_iconst dX7_most_5 ?_
    refine j_ldcw (z := 99999999) q1078 (by decide) dX7_most_6 ?_
    obtain ⟨b5, hb5, hf⟩ := ob hf
    obtain ⟨eb5, tb5⟩ := ztg_s hb5
    obtain ⟨q6, kq6, mq6, k_q6, m_q6, hq6, hf, hkq6, hmq6⟩ := bdU_s hf
    obtain ⟨hczq6, hcs⟩ := hcs_step hcs hkq6 hmq6
    have hMq6 := t7_number (A := A) hfl (some b5) 0 99999999 q2.2 hq6
    rcases zq6 : q6.1 with e7 | x8
    · rw [zq6] at hf hMq6
      replace hf := telL hf
      obtain ⟨ht, hr⟩ := xth_s hf
      rw [hr]
      exact x_callV [pI 0, pI 99999999] [] _ hMq6 ⟨q894, q896, qs18, q146, q897⟩ dv7_number rfl ⟨(Nat.le_of_ble_eq_true rfl), (Nat.le_of_ble_eq_true rfl)⟩ (c_recv zcl_7 tb5) (by rw [← eb5]; rfl) (Nat.le_of_ble_eq_true rfl) dX7_most_9 hczq6 ht q1088
    · rw [zq6] at hf hMq6
      replace hf := telR hf
      refine t_callV [pI 0, pI 99999999] [] _ hMq6 ⟨q894, q896, qs18, q146, q897⟩ dv7_number rfl ⟨(Nat.le_of_ble_eq_true rfl), (Nat.le_of_ble_eq_true rfl)⟩ (c_recv zcl_7 tb5) (by rw [← eb5]; rfl) (Nat.le_of_ble_eq_true rfl) dX7_most_9 hczq6 ?_
      refine j_istore_n dX7_most_12 [(1, pI x8), (0, pR v0)] (Nat.le_of_ble_eq_true rfl) rfl ?_
      refine j_aload_n dX7_most_13 1 rfl ?_
      refine j_ldc2 (z := 435778055796) q1089 (by decide) dX7_most_14 ?_
      obtain ⟨b9, hb9, hf⟩ := ob hf
      obtain ⟨eb9, tb9⟩ := ztg_s hb9
      obtain ⟨x10, hx10, hf⟩ := ob hf
      refine a_Vr [pL 435778055796] [] (t7_is (some b9) 435778055796 q6.2 hx10) ⟨q787, q789, qs12, q146, q790⟩ dv7_is rfl ⟨(Nat.le_of_ble_eq_true rfl), (Nat.le_of_ble_eq_true rfl)⟩ (c_recv zcl_7 tb9) (by rw [← eb9]; rfl) (Nat.le_of_ble_eq_true rfl) dX7_most_17 (hcs_ret (x := ()) (r := ()) hcs) ?_
      refine j_if_eq (w32 x10) rfl 27 dX7_most_20 (by decide) (fun h17 => ?_) (fun h17 => ?_)
      · replace hf := it h17 hf
        refine j_aload_n dX7_most_27 1 rfl ?_
        refine j_ldc2 (z := 2036687218) q1090 (by decide) dX7_most_28 ?_
        obtain ⟨b11, hb11, hf⟩ := ob hf
        obtain ⟨eb11, tb11⟩ := ztg_s hb11
        obtain ⟨x12, hx12, hf⟩ := ob hf
        refine a_Vr [pL 2036687218] [] (t7_is (some b11) 2036687218 q6.2 hx12) ⟨q787, q789, qs12, q146, q790⟩ dv7_is rfl ⟨(Nat.le_of_ble_eq_true rfl), (Nat.le_of_ble_eq_true rfl)⟩ (c_recv zcl_7 tb11) (by rw [← eb11]; rfl) (Nat.le_of_ble_eq_true rfl) dX7_most_31 (hcs_ret (x := ()) (r := ()) hcs) ?_
        refine j_if_eq (w32 x12) rfl 41 dX7_most_34 (by decide) (fun h16 => ?_) (fun h16 => ?_)
        · replace hf := it h16 hf
          refine j_aload_n dX7_most_41 1 rfl ?_
          refine j_ldc2 (z := 6384748) q1091 (by decide) dX7_most_42 ?_
          obtain ⟨b13, hb13, hf⟩ := ob hf
          obtain ⟨eb13, tb13⟩ := ztg_s hb13
          obtain ⟨x14, hx14, hf⟩ := ob hf
          refine a_Vr [pL 6384748] [] (t7_is (some b13) 6384748 q6.2 hx14) ⟨q787, q789, qs12, q146, q790⟩ dv7_is rfl ⟨(Nat.le_of_ble_eq_true rfl), (Nat.le_of_ble_eq_true rfl)⟩ (c_recv zcl_7 tb13) (by rw [← eb13]; rfl) (Nat.le_of_ble_eq_true rfl) dX7_most_45 (hcs_ret (x := ()) (r := ()) hcs) ?_
          refine j_if_eq (w32 x14) rfl 55 dX7_most_48 (by decide) (fun h15 => ?_) (fun h15 => ?_)
          · replace hf := it h15 hf
            refine j_iconst dX7_most_55 ?_
            exact j_sub [1, 0] _ rfl (t7_most_b56 hfl v0 x8 (-1) q6.2 hcs hf)
          · replace hf := ie h15 hf
            refine j_iconst dX7_most_51 ?_
            refine j_goto 56 dX7_most_52 (by decide) ?_
            exact j_sub [1, 0] _ rfl (t7_most_b56 hfl v0 x8 2 q6.2 hcs hf)
        · replace hf := ie h16 hf
          refine j_iconst dX7_most_37 ?_
          refine j_goto 56 dX7_most_38 (by decide) ?_
          exact j_sub [1, 0] _ rfl (t7_most_b56 hfl v0 x8 1 q6.2 hcs hf)
      · replace hf := ie h17 hf
        refine j_iconst dX7_most_23 ?_
        refine j_goto 56 dX7_most_24 (by decide) ?_
        exact j_sub [1, 0] _ rfl (t7_most_b56 hfl v0 x8 0 q6.2 hcs hf)
theorem t7_priceKind {G : CG} {A : Nat → Prop} {l : Launch} {r : Int} (v0 : Option Nat) (u : Sg) (hf : f7_priceKind G v0 u = some r) : JM kC (bC G A) A l yX7_priceKind D7_priceKind [pR v0] u (some (pI r)) u 0 0 := by
  refine j_met (lv0 := [(0, pR v0)]) ⟨pl_X7, rfl, rfl, (Nat.le_of_ble_eq_true rfl), rfl⟩ ?_
  unfold f7_priceKind at hf
  refine j_aload_n dX7_priceKind_0 0 rfl ?_
  refine j_ldc2 (z := 1918989413) q1096 (by decide) dX7_priceKind_1 ?_
  obtain ⟨b1, hb1, hf⟩ := ob hf
  obtain ⟨eb1, tb1⟩ := ztg_s hb1
  obtain ⟨x2, hx2, hf⟩ := ob hf
  refine a_Vr [pL 1918989413] [] (t7_is (some b1) 1918989413 u hx2) ⟨q787, q789, qs12, q146, q790⟩ dv7_is rfl ⟨(Nat.le_of_ble_eq_true rfl), (Nat.le_of_ble_eq_true rfl)⟩ (c_recv zcl_7 tb1) (by rw [← eb1]; rfl) (Nat.le_of_ble_eq_true rfl) dX7_priceKind_4 ⟨Nat.le_refl 0, Nat.le_refl 0⟩ ?_
  refine j_if_eq (w32 x2) rfl 14 dX7_priceKind_7 (by decide) (fun h15 => ?_) (fun h15 => ?_)
  · replace hf := it h15 hf
    refine j_aload_n dX7_priceKind_14 0 rfl ?_
    refine j_ldc2 (z := 499984983411) q1097 (by decide) dX7_priceKind_15 ?_
    obtain ⟨b3, hb3, hf⟩ := ob hf
    obtain ⟨eb3, tb3⟩ := ztg_s hb3
    obtain ⟨x4, hx4, hf⟩ := ob hf
    refine a_Vr [pL 499984983411] [] (t7_is (some b3) 499984983411 u hx4) ⟨q787, q789, qs12, q146, q790⟩ dv7_is rfl ⟨(Nat.le_of_ble_eq_true rfl), (Nat.le_of_ble_eq_true rfl)⟩ (c_recv zcl_7 tb3) (by rw [← eb3]; rfl) (Nat.le_of_ble_eq_true rfl) dX7_priceKind_18 ⟨Nat.le_refl 0, Nat.le_refl 0⟩ ?_
    refine j_if_eq (w32 x4) rfl 28 dX7_priceKind_21 (by decide) (fun h14 => ?_) (fun h14 => ?_)
    · replace hf := it h14 hf
      refine j_aload_n dX7_priceKind_28 0 rfl ?_
      refine j_ldc2 (z := 1886156147) q1098 (by decide) dX7_priceKind_29 ?_
      obtain ⟨b5, hb5, hf⟩ := ob hf
      obtain ⟨eb5, tb5⟩ := ztg_s hb5
      obtain ⟨x6, hx6, hf⟩ := ob hf
      refine a_Vr [pL 1886156147] [] (t7_is (some b5) 1886156147 u hx6) ⟨q787, q789, qs12, q146, q790⟩ dv7_is rfl ⟨(Nat.le_of_ble_eq_true rfl), (Nat.le_of_ble_eq_true rfl)⟩ (c_recv zcl_7 tb5) (by rw [← eb5]; rfl) (Nat.le_of_ble_eq_true rfl) dX7_priceKind_32 ⟨Nat.le_refl 0, Nat.le_refl 0⟩ ?_
      refine j_if_eq (w32 x6) rfl 42 dX7_priceKind_35 (by decide) (fun h13 => ?_) (fun h13 => ?_)
      · replace hf := it h13 hf
        refine j_aload_n dX7_priceKind_42 0 rfl ?_
        refine j_ldc2 (z := 491496238692) q1099 (by decide) dX7_priceKind_43 ?_
        obtain ⟨b7, hb7, hf⟩ := ob hf
        obtain ⟨eb7, tb7⟩ := ztg_s hb7
        obtain ⟨x8, hx8, hf⟩ := ob hf
        refine a_Vr [pL 491496238692] [] (t7_is (some b7) 491496238692 u hx8) ⟨q787, q789, qs12, q146, q790⟩ dv7_is rfl ⟨(Nat.le_of_ble_eq_true rfl), (Nat.le_of_ble_eq_true rfl)⟩ (c_recv zcl_7 tb7) (by rw [← eb7]; rfl) (Nat.le_of_ble_eq_true rfl) dX7_priceKind_46 ⟨Nat.le_refl 0, Nat.le_refl 0⟩ ?_
        refine j_if_eq (w32 x8) rfl 56 dX7_priceKind_49 (by decide) (fun h12 => ?_) (fun h12 => ?_)
        · replace hf := it h12 hf
          refine j_aload_n dX7_priceKind_56 0 rfl ?_
          refine j_ldc2 (z := 465557353332) q1100 (by decide) dX7_priceKind_57 ?_
          obtain ⟨b9, hb9, hf⟩ := ob hf
          obtain ⟨eb9, tb9⟩ := ztg_s hb9
          obtain ⟨x10, hx10, hf⟩ := ob hf
          refine a_Vr [pL 465557353332] [] (t7_is (some b9) 465557353332 u hx10) ⟨q787, q789, qs12, q146, q790⟩ dv7_is rfl ⟨(Nat.le_of_ble_eq_true rfl), (Nat.le_of_ble_eq_true rfl)⟩ (c_recv zcl_7 tb9) (by rw [← eb9]; rfl) (Nat.le_of_ble_eq_true rfl) dX7_priceKind_60 ⟨Nat.le_refl 0, Nat.le_refl 0⟩ ?_
          refine j_if_eq (w32 x10) rfl 70 dX7_priceKind_63 (by decide) (fun h11 => ?_) (fun h11 => ?_)
          · replace hf := it h11 hf
            refine j_iconst dX7_priceKind_70 ?_
            replace hf := Option.some.inj hf
            subst hf
            exact j_ireturn (bC_mv G A) ⟨Nat.le_refl 0, Nat.le_refl 0⟩ rfl dX7_priceKind_71
          · replace hf := ie h11 hf
            refine j_iconst dX7_priceKind_66 ?_
            refine j_goto 71 dX7_priceKind_67 (by decide) ?_
            replace hf := Option.some.inj hf
            subst hf
            exact j_ireturn (bC_mv G A) ⟨Nat.le_refl 0, Nat.le_refl 0⟩ rfl dX7_priceKind_71
        · replace hf := ie h12 hf
          refine j_iconst dX7_priceKind_52 ?_
          refine j_goto 71 dX7_priceKind_53 (by decide) ?_
          replace hf := Option.some.inj hf
          subst hf
          exact j_ireturn (bC_mv G A) ⟨Nat.le_refl 0, Nat.le_refl 0⟩ rfl dX7_priceKind_71
      · replace hf := ie h13 hf
        refine j_iconst dX7_priceKind_38 ?_
        refine j_goto 71 dX7_priceKind_39 (by decide) ?_
        replace hf := Option.some.inj hf
        subst hf
        exact j_ireturn (bC_mv G A) ⟨Nat.le_refl 0, Nat.le_refl 0⟩ rfl dX7_priceKind_71
    · replace hf := ie h14 hf
      refine j_iconst dX7_priceKind_24 ?_
      refine j_goto 71 dX7_priceKind_25 (by decide) ?_
      replace hf := Option.some.inj hf
      subst hf
      exact j_ireturn (bC_mv G A) ⟨Nat.le_refl 0, Nat.le_refl 0⟩ rfl dX7_priceKind_71
  · replace hf := ie h15 hf
    refine j_iconst dX7_priceKind_10 ?_
    refine j_goto 71 dX7_priceKind_11 (by decide) ?_
    replace hf := Option.some.inj hf
    subst hf
    exact j_ireturn (bC_mv G A) ⟨Nat.le_refl 0, Nat.le_refl 0⟩ rfl dX7_priceKind_71
theorem t17_init {G : CG} {A : Nat → Prop} {l : Launch} {r : Sg} (v0 : Option Nat) (v1 : Int) (v2 : Int) (v3 : Option Nat) (u : Sg) (hf : f17_init G v0 v1 v2 v3 u = some r) : JM kC (bC G A) A l yX17_init D17_init [pR v0, pI v1, pI v2, pR v3] u none r 0 0 := by
  refine j_met (lv0 := [(0, pR v0), (1, pI v1), (2, pI v2), (3, pR v3)]) ⟨pl_X17, rfl, rfl, (Nat.le_of_ble_eq_true rfl), rfl⟩ ?_
  unfold f17_init at hf
  refine j_aload_n dX17_init_0 0 rfl ?_
  obtain ⟨b1, eb1, hg⟩ := ob hf
  clear hf
  subst eb1
  have hf := hg
  clear hg
  refine c_objInit q1117 q177 q178 (Nat.le_of_ble_eq_true rfl) (Nat.le_of_ble_eq_true rfl) (Nat.le_of_ble_eq_true rfl) dX17_init_1 ?_
  refine j_aload_n dX17_init_4 0 rfl ?_
  refine j_iload_n dX17_init_5 1 rfl ?_
  obtain ⟨u2, hu2, hf⟩ := ob hf
  refine c_putiF (ci := 17) (k := 0) hu2 zcl_17 (Nat.le_of_ble_eq_true rfl) zf_X17_7 fk_680 rfl rfl rfl fits_I dX17_init_6 ?_
  refine j_aload_n dX17_init_9 0 rfl ?_
  refine j_iload_n dX17_init_10 2 rfl ?_
  obtain ⟨u3, hu3, hf⟩ := ob hf
  refine c_putiF (ci := 17) (k := 1) hu3 zcl_17 (Nat.le_of_ble_eq_true rfl) zf_X17_13 fk_681 rfl rfl rfl fits_I dX17_init_11 ?_
  refine j_aload_n dX17_init_14 0 rfl ?_
  refine j_aload_n dX17_init_15 3 rfl ?_
  obtain ⟨u4, hu4, hf⟩ := ob hf
  refine c_putaF (ci := 17) (k := 2) hu4 zcl_17 (Nat.le_of_ble_eq_true rfl) zf_X17_16 fk_682 rfl rfl rfl fits_O dX17_init_16 ?_
  replace hf := Option.some.inj hf
  subst hf
  exact j_return (bC_mv G A) ⟨Nat.le_refl 0, Nat.le_refl 0⟩ rfl dX17_init_19
theorem t7_timesBehind_b73 {G : CG} {A : Nat → Prop} {l : Launch} {a : List PV} {r : Int} {Kf : Int → Option (Int)} {v0 : Option Nat} {u : Sg} (kh : Int → Int → Option (Int)) (hkh : ∀ (z1 : Int) (z2 : Int), ((kh z1 z2).bind Kf = some r) → JW kC (bC G A) A l D7_timesBehind a (jQ (bC G A) A a (some (pI r)) u 0 0) 0 0 u 0 0 17 [(0, pR v0), (1, pI z1), (2, pI z2)] []) (hK0 : ∀ q : Int, Kf q = some r → JW kC (bC G A) A l D7_timesBehind a (jQ (bC G A) A a (some (pI r)) u 0 0) 0 0 u 0 0 81 [(1, pI q)] []) (v2 : Int) (s0 : Int) (s1 : Int) (hf : (f7_timesBehind_b73 G kh v0 v2 s0 s1 u).bind Kf = some r) : JW kC (bC G A) A l D7_timesBehind a (jQ (bC G A) A a (some (pI r)) u 0 0) 0 0 u 0 0 73 [(0, pR v0), (2, pI v2)] [pI s1, pI s0] := by
  unfold f7_timesBehind_b73 at hf
  refine j_iadd dX7_timesBehind_73 ?_
  refine j_istore_n dX7_timesBehind_74 [(1, pI (s0 + s1)), (0, pR v0), (2, pI v2)] (Nat.le_of_ble_eq_true rfl) rfl ?_
  refine j_iinc dX7_timesBehind_75 2 rfl [(2, pI (v2 + (-1))), (1, pI (s0 + s1)), (0, pR v0)] (Nat.le_of_ble_eq_true rfl) rfl ?_
  refine j_goto 17 dX7_timesBehind_78 (by decide) ?_
  exact j_sub [2, 1, 0] _ rfl (hkh (s0 + s1) (v2 + (-1)) hf)
theorem t7_timesBehind_l17 {G : CG} {A : Nat → Prop} {l : Launch} {a : List PV} {r : Int} {Kf : Int → Option (Int)} (v0 : Option Nat) (u : Sg) (hK0 : ∀ q : Int, Kf q = some r → JW kC (bC G A) A l D7_timesBehind a (jQ (bC G A) A a (some (pI r)) u 0 0) 0 0 u 0 0 81 [(1, pI q)] []) : ∀ (n : Nat) (v1 : Int) (v2 : Int), ((f7_timesBehind_l17 G v0 u n v1 v2).bind Kf = some r) → JW kC (bC G A) A l D7_timesBehind a (jQ (bC G A) A a (some (pI r)) u 0 0) 0 0 u 0 0 17 [(0, pR v0), (1, pI v1), (2, pI v2)] [] := by
  intro n
  induction n with
  | zero => intro v1 v2 hf; exact onb hf
  | succ n ih =>
    intro v1 v2 hf
    unfold f7_timesBehind_l17 at hf
    refine j_iload_n dX7_timesBehind_17 2 rfl ?_
    refine j_if_lt (w32 v2) rfl 81 dX7_timesBehind_18 (by decide) (fun h15 => ?_) (fun h15 => ?_)
    · replace hf := itb h15 hf
      exact j_sub [1] _ rfl (hK0 v1 hf)
    · replace hf := ieb h15 hf
      refine j_aload_n dX7_timesBehind_21 0 rfl ?_
      obtain ⟨x1, hx1, hf⟩ := obb hf
      refine c_geta (ci := 7) (k := 6) hx1 zcl_7 (Nat.le_of_ble_eq_true rfl) zf_X7_15 fk_286 dX7_timesBehind_22 ?_
      obtain ⟨x2, hx2, hf⟩ := obb hf
      refine c_getaN (ci := 6) (k := 4) hx2 zcl_6 (Nat.le_of_ble_eq_true rfl) zf_X7_289 fk_244 dX7_timesBehind_25 ?_
      refine j_iload_n dX7_timesBehind_28 2 rfl ?_
      obtain ⟨b3, hb3, hf⟩ := obb hf
      obtain ⟨eb3, tb3⟩ := ztg_s hb3
      obtain ⟨x4, hx4, hf⟩ := obb hf
      refine a_Fr (x := ix_1) [pI v2] [] (tJ2_get (some b3) v2 u hx4) ⟨q959, q813, q815, q131, q817⟩ iF_1 df_1 rfl ⟨(Nat.le_of_ble_eq_true rfl), (Nat.le_of_ble_eq_true rfl)⟩ zcl_5 rfl tb3 (by rw [← eb3]; rfl) (Nat.le_of_ble_eq_true rfl) dX7_timesBehind_29 ⟨Nat.le_refl 0, Nat.le_refl 0⟩ ?_
      obtain ⟨y5, hy5, hf⟩ := obb hf
      refine c_cast hy5 zok_PriceRow q1109 dX7_timesBehind_34 ?_
      obtain ⟨x6, hx6, hf⟩ := obb hf
      refine c_getiN (ci := 17) (k := 0) hx6 zcl_17 (Nat.le_of_ble_eq_true rfl) zf_X7_304 fk_680 dX7_timesBehind_37 ?_
      refine j_iconst dX7_timesBehind_40 ?_
      refine j_icmp_eq (w32 x6) 3 rfl rfl 81 dX7_timesBehind_41 (by decide) (fun h14 => ?_) (fun h14 => ?_)
      · replace hf := itb h14 hf
        exact j_sub [1] _ rfl (hK0 v1 hf)
      · replace hf := ieb h14 hf
        refine j_iload_n dX7_timesBehind_44 1 rfl ?_
        refine j_aload_n dX7_timesBehind_45 0 rfl ?_
        obtain ⟨x7, hx7, hf⟩ := obb hf
        refine c_geta (ci := 7) (k := 6) hx7 zcl_7 (Nat.le_of_ble_eq_true rfl) zf_X7_15 fk_286 dX7_timesBehind_46 ?_
        obtain ⟨x8, hx8, hf⟩ := obb hf
        refine c_getaN (ci := 6) (k := 4) hx8 zcl_6 (Nat.le_of_ble_eq_true rfl) zf_X7_289 fk_244 dX7_timesBehind_49 ?_
        refine j_iload_n dX7_timesBehind_52 2 rfl ?_
        obtain ⟨b9, hb9, hf⟩ := obb hf
        obtain ⟨eb9, tb9⟩ := ztg_s hb9
        obtain ⟨x10, hx10, hf⟩ := obb hf
        refine a_Fr (x := ix_1) [pI v2] [pI v1] (tJ2_get (some b9) v2 u hx10) ⟨q959, q813, q815, q131, q817⟩ iF_1 df_1 rfl ⟨(Nat.le_of_ble_eq_true rfl), (Nat.le_of_ble_eq_true rfl)⟩ zcl_5 rfl tb9 (by rw [← eb9]; rfl) (Nat.le_of_ble_eq_true rfl) dX7_timesBehind_53 ⟨Nat.le_refl 0, Nat.le_refl 0⟩ ?_
        obtain ⟨y11, hy11, hf⟩ := obb hf
        refine c_cast hy11 zok_PriceRow q1109 dX7_timesBehind_58 ?_
        obtain ⟨x12, hx12, hf⟩ := obb hf
        refine c_getiN (ci := 17) (k := 0) hx12 zcl_17 (Nat.le_of_ble_eq_true rfl) zf_X7_304 fk_680 dX7_timesBehind_61 ?_
        refine j_iconst dX7_timesBehind_64 ?_
        refine j_icmp_ne (w32 x12) 1 rfl rfl 72 dX7_timesBehind_65 (by decide) (fun h13 => ?_) (fun h13 => ?_)
        · replace hf := ieb h13 hf
          refine j_iconst dX7_timesBehind_72 ?_
          exact j_sub [0, 2] _ rfl (t7_timesBehind_b73 (f7_timesBehind_l17 G v0 u n) ih hK0 v2 v1 0 hf)
        · replace hf := itb h13 hf
          refine j_iconst dX7_timesBehind_68 ?_
          refine j_goto 73 dX7_timesBehind_69 (by decide) ?_
          exact j_sub [0, 2] _ rfl (t7_timesBehind_b73 (f7_timesBehind_l17 G v0 u n) ih hK0 v2 v1 1 hf)
theorem t7_timesBehind {G : CG} {A : Nat → Prop} {l : Launch} {r : Int} (v0 : Option Nat) (u : Sg) (hf : f7_timesBehind G v0 u = some r) : JM kC (bC G A) A l yX7_timesBehind D7_timesBehind [pR v0] u (some (pI r)) u 0 0 := by
  refine j_met (lv0 := [(0, pR v0)]) ⟨pl_X7, rfl, rfl, (Nat.le_of_ble_eq_true rfl), rfl⟩ ?_
  unfold f7_timesBehind at hf
  refine j_iconst dX7_timesBehind_0 ?_
  refine j_istore_n dX7_timesBehind_1 [(1, pI 0), (0, pR v0)] (Nat.le_of_ble_eq_true rfl) rfl ?_
  refine j_aload_n dX7_timesBehind_2 1 rfl ?_
  obtain ⟨x1, hx1, hf⟩ := ob hf
  refine c_geta (ci := 7) (k := 6) hx1 zcl_7 (Nat.le_of_ble_eq_true rfl) zf_X7_15 fk_286 dX7_timesBehind_3 ?_
  obtain ⟨x2, hx2, hf⟩ := ob hf
  refine c_getaN (ci := 6) (k := 4) hx2 zcl_6 (Nat.le_of_ble_eq_true rfl) zf_X7_289 fk_244 dX7_timesBehind_6 ?_
  obtain ⟨b3, hb3, hf⟩ := ob hf
  obtain ⟨eb3, tb3⟩ := ztg_s hb3
  obtain ⟨x4, hx4, hf⟩ := ob hf
  refine a_Fr (x := ix_0) [] [] (tJ2_size (some b3) u hx4) ⟨q839, q559, q561, q131, q563⟩ iF_0 df_0 rfl ⟨(Nat.le_of_ble_eq_true rfl), (Nat.le_of_ble_eq_true rfl)⟩ zcl_5 rfl tb3 (by rw [← eb3]; rfl) (Nat.le_of_ble_eq_true rfl) dX7_timesBehind_9 ⟨Nat.le_refl 0, Nat.le_refl 0⟩ ?_
  refine j_iconst dX7_timesBehind_14 ?_
  refine j_isub dX7_timesBehind_15 ?_
  refine j_istore_n dX7_timesBehind_16 [(2, pI (x4 - 1)), (1, pI 0), (0, pR v0)] (Nat.le_of_ble_eq_true rfl) rfl ?_
  refine j_sub [2, 1, 0] _ rfl (t7_timesBehind_l17 v0 u ?_ NN 0 (x4 - 1) hf)
  · intro q5 hf
    refine j_iload_n dX7_timesBehind_81 0 rfl ?_
    replace hf := Option.some.inj hf
    subst hf
    exact j_ireturn (bC_mv G A) ⟨Nat.le_refl 0, Nat.le_refl 0⟩ rfl dX7_timesBehind_82
theorem t7_priceRow_b30 {G : CG} {A : Nat → Prop} {l : Launch} {a : List PV} {mc ms ce sl : Nat} (hfl : l.stackTraces = false) {r : (Nat ⊕ (Unit)) × Sg} {c0 n0 : Nat} (v0 : Option Nat) (u : Sg) (hcs : ce + c0 ≤ mc ∧ sl + n0 ≤ ms) (hf : f7_priceRow_b30 G v0 u = some (r, c0, n0)) : JW kC (bC G A) A l D7_priceRow a (tQQ yX7_priceRow G A a (omV r.1) r.2 mc ms) mc ms u ce sl 30 [(0, pR v0)] [] := by
  unfold f7_priceRow_b30 at hf
  obtain ⟨q1, kq1, mq1, k_q1, m_q1, hq1, hf, hkq1, hmq1⟩ := bdU_s hf
  obtain ⟨hczq1, hcs⟩ := hcs_step hcs hkq1 hmq1
  refine c_new (ci := 8) hq1 zcl_8 zmk_8 q667 dX7_priceRow_30 hczq1 ?_
  refine j_dup dX7_priceRow_33 rfl ?_
  refine j_bipush dX7_priceRow_34 (by decide) ?_
  refine j_aload_n dX7_priceRow_36 0 rfl ?_
  obtain ⟨x2, hx2, hf⟩ := ob hf
  refine c_geti (ci := 7) (k := 2) hx2 zcl_7 (Nat.le_of_ble_eq_true rfl) zf_X7_43 fk_282 dX7_priceRow_37 ?_
  obtain ⟨u3, hu3, hf⟩ := ob hf
  refine c_callI [pI 6, pI x2] [pR (some q1.1)] _ (t8_init hfl (some q1.1) 6 x2 q1.2 hu3) ⟨q706, q707, q150, q708, rfl, rfl⟩ dv8_init rfl ⟨(Nat.le_of_ble_eq_true rfl), (Nat.le_of_ble_eq_true rfl)⟩ rfl (Nat.le_of_ble_eq_true rfl) dX7_priceRow_40 (hcs_ret (x := ()) (r := ()) hcs) ?_
  obtain ⟨ht, hr⟩ := xth_s hf
  rw [hr]
  exact t_athrow ht q1104 (hcs_ret (x := ()) (r := ()) hcs) dX7_priceRow_43
theorem t7_priceRow_b144 {G : CG} {A : Nat → Prop} {l : Launch} {a : List PV} {mc ms ce sl : Nat} (hfl : l.stackTraces = false) {r : (Nat ⊕ (Unit)) × Sg} {c0 n0 : Nat} (v0 : Option Nat) (v1 : Int) (v2 : Int) (v3 : Option Nat) (u : Sg) (hcs : ce + c0 ≤ mc ∧ sl + n0 ≤ ms) (hf : f7_priceRow_b144 G v0 v1 v2 v3 u = some (r, c0, n0)) : JW kC (bC G A) A l D7_priceRow a (tQQ yX7_priceRow G A a (omV r.1) r.2 mc ms) mc ms u ce sl 144 [(0, pR v0), (1, pI v1), (2, pI v2), (3, pR v3)] [] := by
  unfold f7_priceRow_b144 at hf
  refine j_aload_n dX7_priceRow_144 0 rfl ?_
  refine j_bipush dX7_priceRow_145 (by decide) ?_
  obtain ⟨b1, hb1, hf⟩ := ob hf
  obtain ⟨eb1, tb1⟩ := ztg_s hb1
  obtain ⟨q2, kq2, mq2, k_q2, m_q2, hq2, hf, hkq2, hmq2⟩ := bdU_s hf
  obtain ⟨hczq2, hcs⟩ := hcs_step hcs hkq2 hmq2
  have hMq2 := t7_want (A := A) hfl (some b1) 59 u hq2
  rcases zq2 : q2.1 with e3 | x4
  · rw [zq2] at hf hMq2
    replace hf := telL hf
    obtain ⟨ht, hr⟩ := xth_s hf
    rw [hr]
    exact x_callV [pI 59] [] _ hMq2 ⟨q899, q901, qs19, q146, q902⟩ dv7_want rfl ⟨(Nat.le_of_ble_eq_true rfl), (Nat.le_of_ble_eq_true rfl)⟩ (c_recv zcl_7 tb1) (by rw [← eb1]; rfl) (Nat.le_of_ble_eq_true rfl) dX7_priceRow_147 hczq2 ht q1104
  · rw [zq2] at hf hMq2
    replace hf := telR hf
    refine t_callV [pI 59] [] _ hMq2 ⟨q899, q901, qs19, q146, q902⟩ dv7_want rfl ⟨(Nat.le_of_ble_eq_true rfl), (Nat.le_of_ble_eq_true rfl)⟩ (c_recv zcl_7 tb1) (by rw [← eb1]; rfl) (Nat.le_of_ble_eq_true rfl) dX7_priceRow_147 hczq2 ?_
    refine j_aload_n dX7_priceRow_150 0 rfl ?_
    obtain ⟨x5, hx5, hf⟩ := ob hf
    refine c_geta (ci := 7) (k := 6) hx5 zcl_7 (Nat.le_of_ble_eq_true rfl) zf_X7_15 fk_286 dX7_priceRow_151 ?_
    obtain ⟨x6, hx6, hf⟩ := ob hf
    refine c_getaN (ci := 6) (k := 4) hx6 zcl_6 (Nat.le_of_ble_eq_true rfl) zf_X7_289 fk_244 dX7_priceRow_154 ?_
    obtain ⟨q7, kq7, mq7, k_q7, m_q7, hq7, hf, hkq7, hmq7⟩ := bdU_s hf
    obtain ⟨hczq7, hcs⟩ := hcs_step hcs hkq7 hmq7
    refine c_new (ci := 17) hq7 zcl_17 zmk_17 q1109 dX7_priceRow_157 hczq7 ?_
    refine j_dup dX7_priceRow_160 rfl ?_
    refine j_iload_n dX7_priceRow_161 1 rfl ?_
    refine j_iload_n dX7_priceRow_162 2 rfl ?_
    refine j_aload_n dX7_priceRow_163 3 rfl ?_
    obtain ⟨u8, hu8, hf⟩ := ob hf
    refine c_callI [pI v1, pI v2, pR v3] [pR (some q7.1), pR x6] _ (t17_init (some q7.1) v1 v2 v3 q7.2 hu8) ⟨q1114, q1115, q165, q1116, rfl, rfl⟩ dv17_init rfl ⟨(Nat.le_of_ble_eq_true rfl), (Nat.le_of_ble_eq_true rfl)⟩ rfl (Nat.le_of_ble_eq_true rfl) dX7_priceRow_164 (hcs_ret (x := ()) (r := ()) hcs) ?_
    obtain ⟨b9, hb9, hf⟩ := ob hf
    obtain ⟨eb9, tb9⟩ := ztg_s hb9
    obtain ⟨q10, kq10, mq10, k_q10, m_q10, hq10, hf, hkq10, hmq10⟩ := bdU_s hf
    obtain ⟨hczq10, hcs⟩ := hcs_step hcs hkq10 hmq10
    refine a_Fr (x := ix_2) [pR (some q7.1)] [] (tJ2_add (some b9) (some q7.1) u8 hq10) ⟨q904, q325, q327, q131, q329⟩ iF_2 df_2 rfl ⟨(Nat.le_of_ble_eq_true rfl), (Nat.le_of_ble_eq_true rfl)⟩ zcl_5 rfl tb9 (by rw [← eb9]; rfl) (Nat.le_of_ble_eq_true rfl) dX7_priceRow_167 hczq10 ?_
    refine j_pop dX7_priceRow_172 rfl ?_
    replace hf := retU hf
    subst hf
    exact t_ofret (j_return (bC_mv G A) (hcs_ret (x := ()) (r := ()) hcs) rfl dX7_priceRow_173)
theorem t7_priceRow_b100 {G : CG} {A : Nat → Prop} {l : Launch} {a : List PV} {mc ms ce sl : Nat} (hfl : l.stackTraces = false) {r : (Nat ⊕ (Unit)) × Sg} {c0 n0 : Nat} (v0 : Option Nat) (v1 : Int) (v2 : Int) (v3 : Option Nat) (u : Sg) (hcs : ce + c0 ≤ mc ∧ sl + n0 ≤ ms) (hf : f7_priceRow_b100 G v0 v1 v2 v3 u = some (r, c0, n0)) : JW kC (bC G A) A l D7_priceRow a (tQQ yX7_priceRow G A a (omV r.1) r.2 mc ms) mc ms u ce sl 100 [(0, pR v0), (1, pI v1), (2, pI v2), (3, pR v3)] [] := by
  unfold f7_priceRow_b100 at hf
  refine j_aload_n dX7_priceRow_100 0 rfl ?_
  refine j_ldc2 (z := 26982) q1112 (by decide) dX7_priceRow_101 ?_
  obtain ⟨b1, hb1, hf⟩ := ob hf
  obtain ⟨eb1, tb1⟩ := ztg_s hb1
  obtain ⟨x2, hx2, hf⟩ := ob hf
  refine a_Vr [pL 26982] [] (t7_is (some b1) 26982 u hx2) ⟨q787, q789, qs12, q146, q790⟩ dv7_is rfl ⟨(Nat.le_of_ble_eq_true rfl), (Nat.le_of_ble_eq_true rfl)⟩ (c_recv zcl_7 tb1) (by rw [← eb1]; rfl) (Nat.le_of_ble_eq_true rfl) dX7_priceRow_104 (hcs_ret (x := ()) (r := ()) hcs) ?_
  refine j_if_eq (w32 x2) rfl 144 dX7_priceRow_107 (by decide) (fun h16 => ?_) (fun h16 => ?_)
  · replace hf := it h16 hf
    exact j_sub [0, 1, 2, 3] _ rfl (t7_priceRow_b144 hfl v0 v1 v2 v3 u hcs hf)
  · replace hf := ie h16 hf
    refine j_aload_n dX7_priceRow_110 0 rfl ?_
    obtain ⟨b3, hb3, hf⟩ := ob hf
    obtain ⟨eb3, tb3⟩ := ztg_s hb3
    obtain ⟨q4, kq4, mq4, k_q4, m_q4, hq4, hf, hkq4, hmq4⟩ := bdU_s hf
    obtain ⟨hczq4, hcs⟩ := hcs_step hcs hkq4 hmq4
    have hMq4 := t7_next (A := A) hfl (some b3) u hq4
    rcases zq4 : q4.1 with e5 | x6
    · rw [zq4] at hf hMq4
      replace hf := telL hf
      obtain ⟨ht, hr⟩ := xth_s hf
      rw [hr]
      exact x_callV [] [] _ hMq4 ⟨q647, q649, qs3, q146, q650⟩ dv7_next rfl ⟨(Nat.le_of_ble_eq_true rfl), (Nat.le_of_ble_eq_true rfl)⟩ (c_recv zcl_7 tb3) (by rw [← eb3]; rfl) (Nat.le_of_ble_eq_true rfl) dX7_priceRow_111 hczq4 ht q1104
    · rw [zq4] at hf hMq4
      replace hf := telR hf
      refine t_callV [] [] _ hMq4 ⟨q647, q649, qs3, q146, q650⟩ dv7_next rfl ⟨(Nat.le_of_ble_eq_true rfl), (Nat.le_of_ble_eq_true rfl)⟩ (c_recv zcl_7 tb3) (by rw [← eb3]; rfl) (Nat.le_of_ble_eq_true rfl) dX7_priceRow_111 hczq4 ?_
      refine j_aload_n dX7_priceRow_114 0 rfl ?_
      obtain ⟨x7, hx7, hf⟩ := ob hf
      refine c_geti (ci := 7) (k := 8) hx7 zcl_7 (Nat.le_of_ble_eq_true rfl) zf_X7_84 fk_288 dX7_priceRow_115 ?_
      refine j_istore dX7_priceRow_118 [(4, pI x7), (0, pR v0), (1, pI v1), (2, pI v2), (3, pR v3)] (Nat.le_of_ble_eq_true rfl) rfl ?_
      refine j_aload_n dX7_priceRow_120 1 rfl ?_
      obtain ⟨b8, hb8, hf⟩ := ob hf
      obtain ⟨eb8, tb8⟩ := ztg_s hb8
      obtain ⟨q9, kq9, mq9, k_q9, m_q9, hq9, hf, hkq9, hmq9⟩ := bdU_s hf
      obtain ⟨hczq9, hcs⟩ := hcs_step hcs hkq9 hmq9
      have hMq9 := (tr_all (A := A) hfl 100).1 (some b8) q4.2 q9 kq9 mq9 hq9
      rcases zq9 : q9.1 with e10 | x11
      · rw [zq9] at hf hMq9
        replace hf := telL hf
        obtain ⟨ht, hr⟩ := xth_s hf
        rw [hr]
        exact x_callV [] [] _ hMq9 ⟨q910, q912, qs21, q146, q913⟩ dv7_cond rfl ⟨(Nat.le_of_ble_eq_true rfl), (Nat.le_of_ble_eq_true rfl)⟩ (c_recv zcl_7 tb8) (by rw [← eb8]; rfl) (Nat.le_of_ble_eq_true rfl) dX7_priceRow_121 hczq9 ht q1104
      · rw [zq9] at hf hMq9
        replace hf := telR hf
        refine t_callV [] [] _ hMq9 ⟨q910, q912, qs21, q146, q913⟩ dv7_cond rfl ⟨(Nat.le_of_ble_eq_true rfl), (Nat.le_of_ble_eq_true rfl)⟩ (c_recv zcl_7 tb8) (by rw [← eb8]; rfl) (Nat.le_of_ble_eq_true rfl) dX7_priceRow_121 hczq9 ?_
        refine j_astore_n dX7_priceRow_124 [(3, pR x11), (4, pI x7), (0, pR v0), (1, pI v1), (2, pI v2)] (Nat.le_of_ble_eq_true rfl) rfl ?_
        refine j_aload_n dX7_priceRow_125 2 rfl ?_
        obtain ⟨x12, hx12, hf⟩ := ob hf
        refine c_geta (ci := 7) (k := 6) hx12 zcl_7 (Nat.le_of_ble_eq_true rfl) zf_X7_15 fk_286 dX7_priceRow_126 ?_
        refine j_dup dX7_priceRow_129 rfl ?_
        obtain ⟨x13, hx13, hf⟩ := ob hf
        refine c_getiN (ci := 6) (k := 8) hx13 zcl_6 (Nat.le_of_ble_eq_true rfl) zf_X7_256 fk_248 dX7_priceRow_130 ?_
        refine j_aload_n dX7_priceRow_133 2 rfl ?_
        obtain ⟨x14, hx14, hf⟩ := ob hf
        refine c_geti (ci := 7) (k := 8) hx14 zcl_7 (Nat.le_of_ble_eq_true rfl) zf_X7_84 fk_288 dX7_priceRow_134 ?_
        refine j_iload dX7_priceRow_137 1 rfl ?_
        refine j_isub dX7_priceRow_139 ?_
        refine j_iadd dX7_priceRow_140 ?_
        obtain ⟨u15, hu15, hf⟩ := ob hf
        refine c_putiN (ci := 6) (k := 8) hu15 zcl_6 (Nat.le_of_ble_eq_true rfl) zf_X7_256 fk_248 rfl fits_I dX7_priceRow_141 ?_
        exact j_sub [2, 3, 4, 0] _ rfl (t7_priceRow_b144 hfl v0 v1 v2 x11 u15 hcs hf)
theorem t7_priceRow_b84 {G : CG} {A : Nat → Prop} {l : Launch} {a : List PV} {mc ms ce sl : Nat} (hfl : l.stackTraces = false) {r : (Nat ⊕ (Unit)) × Sg} {c0 n0 : Nat} (v0 : Option Nat) (v1 : Int) (s0 : Option Nat) (s1 : Int) (s2 : Int) (u : Sg) (hcs : ce + c0 ≤ mc ∧ sl + n0 ≤ ms) (hf : f7_priceRow_b84 G v0 v1 s0 s1 s2 u = some (r, c0, n0)) : JW kC (bC G A) A l D7_priceRow a (tQQ yX7_priceRow G A a (omV r.1) r.2 mc ms) mc ms u ce sl 84 [(0, pR v0), (1, pI v1)] [pI s2, pI s1, pR s0] := by
  unfold f7_priceRow_b84 at hf
  obtain ⟨b1, hb1, hf⟩ := ob hf
  obtain ⟨eb1, tb1⟩ := ztg_s hb1
  obtain ⟨q2, kq2, mq2, k_q2, m_q2, hq2, hf, hkq2, hmq2⟩ := bdU_s hf
  obtain ⟨hczq2, hcs⟩ := hcs_step hcs hkq2 hmq2
  have hMq2 := t7_number (A := A) hfl (some b1) s1 s2 u hq2
  rcases zq2 : q2.1 with e3 | x4
  · rw [zq2] at hf hMq2
    replace hf := telL hf
    obtain ⟨ht, hr⟩ := xth_s hf
    rw [hr]
    exact x_callV [pI s1, pI s2] [] _ hMq2 ⟨q894, q896, qs18, q146, q897⟩ dv7_number rfl ⟨(Nat.le_of_ble_eq_true rfl), (Nat.le_of_ble_eq_true rfl)⟩ (c_recv zcl_7 tb1) (by rw [← eb1]; rfl) (Nat.le_of_ble_eq_true rfl) dX7_priceRow_84 hczq2 ht q1104
  · rw [zq2] at hf hMq2
    replace hf := telR hf
    refine t_callV [pI s1, pI s2] [] _ hMq2 ⟨q894, q896, qs18, q146, q897⟩ dv7_number rfl ⟨(Nat.le_of_ble_eq_true rfl), (Nat.le_of_ble_eq_true rfl)⟩ (c_recv zcl_7 tb1) (by rw [← eb1]; rfl) (Nat.le_of_ble_eq_true rfl) dX7_priceRow_84 hczq2 ?_
    refine j_istore_n dX7_priceRow_87 [(2, pI x4), (0, pR v0), (1, pI v1)] (Nat.le_of_ble_eq_true rfl) rfl ?_
    refine j_null dX7_priceRow_88 ?_
    refine j_astore_n dX7_priceRow_89 [(3, pR none), (2, pI x4), (0, pR v0), (1, pI v1)] (Nat.le_of_ble_eq_true rfl) rfl ?_
    refine j_iload_n dX7_priceRow_90 3 rfl ?_
    refine j_iconst dX7_priceRow_91 ?_
    refine j_icmp_eq (w32 v1) 1 rfl rfl 100 dX7_priceRow_92 (by decide) (fun h6 => ?_) (fun h6 => ?_)
    · replace hf := it h6 hf
      exact j_sub [2, 3, 1, 0] _ rfl (t7_priceRow_b100 hfl v0 v1 x4 none q2.2 hcs hf)
    · replace hf := ie h6 hf
      refine j_iload_n dX7_priceRow_95 3 rfl ?_
      refine j_iconst dX7_priceRow_96 ?_
      refine j_icmp_ne (w32 v1) 2 rfl rfl 144 dX7_priceRow_97 (by decide) (fun h5 => ?_) (fun h5 => ?_)
      · replace hf := ie h5 hf
        exact j_sub [2, 3, 1, 0] _ rfl (t7_priceRow_b144 hfl v0 v1 x4 none q2.2 hcs hf)
      · replace hf := it h5 hf
        exact j_sub [2, 3, 1, 0] _ rfl (t7_priceRow_b100 hfl v0 v1 x4 none q2.2 hcs hf)
theorem t7_priceRow_b59 {G : CG} {A : Nat → Prop} {l : Launch} {a : List PV} {mc ms ce sl : Nat} (hfl : l.stackTraces = false) {r : (Nat ⊕ (Unit)) × Sg} {c0 n0 : Nat} (v0 : Option Nat) (v1 : Int) (s0 : Option Nat) (s1 : Int) (u : Sg) (hcs : ce + c0 ≤ mc ∧ sl + n0 ≤ ms) (hf : f7_priceRow_b59 G v0 v1 s0 s1 u = some (r, c0, n0)) : JW kC (bC G A) A l D7_priceRow a (tQQ yX7_priceRow G A a (omV r.1) r.2 mc ms) mc ms u ce sl 59 [(0, pR v0), (1, pI v1)] [pI s1, pR s0] := by
  unfold f7_priceRow_b59 at hf
  refine j_iload_n dX7_priceRow_59 1 rfl ?_
  refine j_iconst dX7_priceRow_60 ?_
  refine j_icmp_ne (w32 v1) 1 rfl rfl 70 dX7_priceRow_61 (by decide) (fun h2 => ?_) (fun h2 => ?_)
  · replace hf := ie h2 hf
    refine j_iload_n dX7_priceRow_70 1 rfl ?_
    refine j_iconst dX7_priceRow_71 ?_
    refine j_icmp_ne (w32 v1) 3 rfl rfl 81 dX7_priceRow_72 (by decide) (fun h1 => ?_) (fun h1 => ?_)
    · replace hf := ie h1 hf
      refine j_ldcw (z := 9999999) q1111 (by decide) dX7_priceRow_81 ?_
      exact j_sub [0, 1] _ rfl (t7_priceRow_b84 hfl v0 v1 s0 s1 9999999 u hcs hf)
    · replace hf := it h1 hf
      refine j_ldcw (z := 100000) q1110 (by decide) dX7_priceRow_75 ?_
      refine j_goto 84 dX7_priceRow_78 (by decide) ?_
      exact j_sub [0, 1] _ rfl (t7_priceRow_b84 hfl v0 v1 s0 s1 100000 u hcs hf)
  · replace hf := it h2 hf
    refine j_sipush dX7_priceRow_64 (by decide) ?_
    refine j_goto 84 dX7_priceRow_67 (by decide) ?_
    exact j_sub [0, 1] _ rfl (t7_priceRow_b84 hfl v0 v1 s0 s1 3000 u hcs hf)
theorem t7_priceRow_b44 {G : CG} {A : Nat → Prop} {l : Launch} {a : List PV} {mc ms ce sl : Nat} (hfl : l.stackTraces = false) {r : (Nat ⊕ (Unit)) × Sg} {c0 n0 : Nat} (v0 : Option Nat) (v1 : Int) (u : Sg) (hcs : ce + c0 ≤ mc ∧ sl + n0 ≤ ms) (hf : f7_priceRow_b44 G v0 v1 u = some (r, c0, n0)) : JW kC (bC G A) A l D7_priceRow a (tQQ yX7_priceRow G A a (omV r.1) r.2 mc ms) mc ms u ce sl 44 [(0, pR v0), (1, pI v1)] [] := by
  unfold f7_priceRow_b44 at hf
  refine j_aload_n dX7_priceRow_44 0 rfl ?_
  obtain ⟨b1, hb1, hf⟩ := ob hf
  obtain ⟨eb1, tb1⟩ := ztg_s hb1
  obtain ⟨q2, kq2, mq2, k_q2, m_q2, hq2, hf, hkq2, hmq2⟩ := bdU_s hf
  obtain ⟨hczq2, hcs⟩ := hcs_step hcs hkq2 hmq2
  have hMq2 := t7_next (A := A) hfl (some b1) u hq2
  rcases zq2 : q2.1 with e3 | x4
  · rw [zq2] at hf hMq2
    replace hf := telL hf
    obtain ⟨ht, hr⟩ := xth_s hf
    rw [hr]
    exact x_callV [] [] _ hMq2 ⟨q647, q649, qs3, q146, q650⟩ dv7_next rfl ⟨(Nat.le_of_ble_eq_true rfl), (Nat.le_of_ble_eq_true rfl)⟩ (c_recv zcl_7 tb1) (by rw [← eb1]; rfl) (Nat.le_of_ble_eq_true rfl) dX7_priceRow_45 hczq2 ht q1104
  · rw [zq2] at hf hMq2
    replace hf := telR hf
    refine t_callV [] [] _ hMq2 ⟨q647, q649, qs3, q146, q650⟩ dv7_next rfl ⟨(Nat.le_of_ble_eq_true rfl), (Nat.le_of_ble_eq_true rfl)⟩ (c_recv zcl_7 tb1) (by rw [← eb1]; rfl) (Nat.le_of_ble_eq_true rfl) dX7_priceRow_45 hczq2 ?_
    refine j_aload_n dX7_priceRow_48 0 rfl ?_
    refine j_iload_n dX7_priceRow_49 1 rfl ?_
    refine j_iconst dX7_priceRow_50 ?_
    refine j_icmp_ne (w32 v1) 3 rfl rfl 58 dX7_priceRow_51 (by decide) (fun h5 => ?_) (fun h5 => ?_)
    · replace hf := ie h5 hf
      refine j_iconst dX7_priceRow_58 ?_
      exact j_sub [0, 1] _ rfl (t7_priceRow_b59 hfl v0 v1 v0 0 q2.2 hcs hf)
    · replace hf := it h5 hf
      refine j_iconst dX7_priceRow_54 ?_
      refine j_goto 59 dX7_priceRow_55 (by decide) ?_
      exact j_sub [0, 1] _ rfl (t7_priceRow_b59 hfl v0 v1 v0 1 q2.2 hcs hf)
theorem t7_priceRow {G : CG} {A : Nat → Prop} {l : Launch} (hfl : l.stackTraces = false) {r : (Nat ⊕ (Unit)) × Sg} {c0 n0 : Nat} (v0 : Option Nat) (v1 : Int) (u : Sg) (hf : f7_priceRow G v0 v1 u = some (r, c0, n0)) : JMT G A l yX7_priceRow D7_priceRow [pR v0, pI v1] u (omV r.1) r.2 c0 n0 := by
  refine t_met (lv0 := [(0, pR v0), (1, pI v1)]) ⟨pl_X7, rfl, rfl, (Nat.le_of_ble_eq_true rfl), rfl⟩ ?_
  have hcs : 0 + c0 ≤ c0 ∧ 0 + n0 ≤ n0 := ⟨by omega, by omega⟩
  unfold f7_priceRow at hf
  refine j_aload_n dX7_priceRow_0 0 rfl ?_
  obtain ⟨x1, hx1, hf⟩ := ob hf
  refine c_geta (ci := 7) (k := 6) hx1 zcl_7 (Nat.le_of_ble_eq_true rfl) zf_X7_15 fk_286 dX7_priceRow_1 ?_
  obtain ⟨x2, hx2, hf⟩ := ob hf
  refine c_getaN (ci := 6) (k := 4) hx2 zcl_6 (Nat.le_of_ble_eq_true rfl) zf_X7_289 fk_244 dX7_priceRow_4 ?_
  obtain ⟨b3, hb3, hf⟩ := ob hf
  obtain ⟨eb3, tb3⟩ := ztg_s hb3
  obtain ⟨x4, hx4, hf⟩ := ob hf
  refine a_Fr (x := ix_0) [] [] (tJ2_size (some b3) u hx4) ⟨q839, q559, q561, q131, q563⟩ iF_0 df_0 rfl ⟨(Nat.le_of_ble_eq_true rfl), (Nat.le_of_ble_eq_true rfl)⟩ zcl_5 rfl tb3 (by rw [← eb3]; rfl) (Nat.le_of_ble_eq_true rfl) dX7_priceRow_7 (hcs_ret (x := ()) (r := ()) hcs) ?_
  refine j_bipush dX7_priceRow_12 (by decide) ?_
  refine j_icmp_eq (w32 x4) 24 rfl rfl 30 dX7_priceRow_14 (by decide) (fun h9 => ?_) (fun h9 => ?_)
  · replace hf := it h9 hf
    exact j_sub [0] _ rfl (t7_priceRow_b30 hfl v0 u hcs hf)
  · replace hf := ie h9 hf
    refine j_iload_n dX7_priceRow_17 1 rfl ?_
    refine j_iconst dX7_priceRow_18 ?_
    refine j_icmp_ne (w32 v1) 1 rfl rfl 44 dX7_priceRow_19 (by decide) (fun h8 => ?_) (fun h8 => ?_)
    · replace hf := ie h8 hf
      exact j_sub [0, 1] _ rfl (t7_priceRow_b44 hfl v0 v1 u hcs hf)
    · replace hf := it h8 hf
      refine j_aload_n dX7_priceRow_22 0 rfl ?_
      obtain ⟨b5, hb5, hf⟩ := ob hf
      obtain ⟨eb5, tb5⟩ := ztg_s hb5
      obtain ⟨x6, hx6, hf⟩ := ob hf
      refine a_Vr [] [] (t7_timesBehind (some b5) u hx6) ⟨q1105, q1107, qs34, q146, q1108⟩ dv7_timesBehind rfl ⟨(Nat.le_of_ble_eq_true rfl), (Nat.le_of_ble_eq_true rfl)⟩ (c_recv zcl_7 tb5) (by rw [← eb5]; rfl) (Nat.le_of_ble_eq_true rfl) dX7_priceRow_23 (hcs_ret (x := ()) (r := ()) hcs) ?_
      refine j_iconst dX7_priceRow_26 ?_
      refine j_icmp_ne (w32 x6) 3 rfl rfl 44 dX7_priceRow_27 (by decide) (fun h7 => ?_) (fun h7 => ?_)
      · replace hf := ie h7 hf
        exact j_sub [0, 1] _ rfl (t7_priceRow_b44 hfl v0 v1 u hcs hf)
      · replace hf := it h7 hf
        exact j_sub [0] _ rfl (t7_priceRow_b30 hfl v0 u hcs hf)
theorem t7_sum {G : CG} {A : Nat → Prop} {l : Launch} (hfl : l.stackTraces = false) {r : (Nat ⊕ (Int)) × Sg} {c0 n0 : Nat} (v0 : Option Nat) (v1 : Int) (v2 : Int) (u : Sg) (hf : f7_sum G v0 v1 v2 u = some (r, c0, n0)) : JMT G A l yX7_sum D7_sum [pR v0, pI v1, pI v2] u (omI r.1) r.2 c0 n0 := by
  refine t_met (lv0 := [(0, pR v0), (1, pI v1), (2, pI v2)]) ⟨pl_X7, rfl, rfl, (Nat.le_of_ble_eq_true rfl), rfl⟩ ?_
  have hcs : 0 + c0 ≤ c0 ∧ 0 + n0 ≤ n0 := ⟨by omega, by omega⟩
  unfold f7_sum at hf
  refine j_iload_n dX7_sum_0 1 rfl ?_
  refine j_if_lt (w32 v1) rfl 18 dX7_sum_1 (by decide) (fun h16 => ?_) (fun h16 => ?_)
  · replace hf := it h16 hf
    refine j_aload_n dX7_sum_18 0 rfl ?_
    obtain ⟨b1, hb1, hf⟩ := ob hf
    obtain ⟨eb1, tb1⟩ := ztg_s hb1
    obtain ⟨q2, kq2, mq2, k_q2, m_q2, hq2, hf, hkq2, hmq2⟩ := bdU_s hf
    obtain ⟨hczq2, hcs⟩ := hcs_step hcs hkq2 hmq2
    have hMq2 := t7_next (A := A) hfl (some b1) u hq2
    rcases zq2 : q2.1 with e3 | x4
    · rw [zq2] at hf hMq2
      replace hf := telL hf
      obtain ⟨ht, hr⟩ := xth_s hf
      rw [hr]
      exact x_callV [] [] _ hMq2 ⟨q647, q649, qs3, q146, q650⟩ dv7_next rfl ⟨(Nat.le_of_ble_eq_true rfl), (Nat.le_of_ble_eq_true rfl)⟩ (c_recv zcl_7 tb1) (by rw [← eb1]; rfl) (Nat.le_of_ble_eq_true rfl) dX7_sum_19 hczq2 ht q1082
    · rw [zq2] at hf hMq2
      replace hf := telR hf
      refine t_callV [] [] _ hMq2 ⟨q647, q649, qs3, q146, q650⟩ dv7_next rfl ⟨(Nat.le_of_ble_eq_true rfl), (Nat.le_of_ble_eq_true rfl)⟩ (c_recv zcl_7 tb1) (by rw [← eb1]; rfl) (Nat.le_of_ble_eq_true rfl) dX7_sum_19 hczq2 ?_
      refine j_aload_n dX7_sum_22 0 rfl ?_
      refine j_iconst dX7_sum_23 ?_
      refine j_iload_n dX7_sum_24 2 rfl ?_
      obtain ⟨b5, hb5, hf⟩ := ob hf
      obtain ⟨eb5, tb5⟩ := ztg_s hb5
      obtain ⟨q6, kq6, mq6, k_q6, m_q6, hq6, hf, hkq6, hmq6⟩ := bdU_s hf
      obtain ⟨hczq6, hcs⟩ := hcs_step hcs hkq6 hmq6
      have hMq6 := t7_number (A := A) hfl (some b5) 0 v2 q2.2 hq6
      rcases zq6 : q6.1 with e7 | x8
      · rw [zq6] at hf hMq6
        replace hf := telL hf
        obtain ⟨ht, hr⟩ := xth_s hf
        rw [hr]
        exact x_callV [pI 0, pI v2] [] _ hMq6 ⟨q894, q896, qs18, q146, q897⟩ dv7_number rfl ⟨(Nat.le_of_ble_eq_true rfl), (Nat.le_of_ble_eq_true rfl)⟩ (c_recv zcl_7 tb5) (by rw [← eb5]; rfl) (Nat.le_of_ble_eq_true rfl) dX7_sum_25 hczq6 ht q1082
      · rw [zq6] at hf hMq6
        replace hf := telR hf
        refine t_callV [pI 0, pI v2] [] _ hMq6 ⟨q894, q896, qs18, q146, q897⟩ dv7_number rfl ⟨(Nat.le_of_ble_eq_true rfl), (Nat.le_of_ble_eq_true rfl)⟩ (c_recv zcl_7 tb5) (by rw [← eb5]; rfl) (Nat.le_of_ble_eq_true rfl) dX7_sum_25 hczq6 ?_
        refine j_istore_n dX7_sum_28 [(3, pI x8), (0, pR v0), (1, pI v1), (2, pI v2)] (Nat.le_of_ble_eq_true rfl) rfl ?_
        refine j_aload_n dX7_sum_29 1 rfl ?_
        refine j_bipush dX7_sum_30 (by decide) ?_
        obtain ⟨b9, hb9, hf⟩ := ob hf
        obtain ⟨eb9, tb9⟩ := ztg_s hb9
        obtain ⟨q10, kq10, mq10, k_q10, m_q10, hq10, hf, hkq10, hmq10⟩ := bdU_s hf
        obtain ⟨hczq10, hcs⟩ := hcs_step hcs hkq10 hmq10
        have hMq10 := t7_want (A := A) hfl (some b9) 59 q6.2 hq10
        rcases zq10 : q10.1 with e11 | x12
        · rw [zq10] at hf hMq10
          replace hf := telL hf
          obtain ⟨ht, hr⟩ := xth_s hf
          rw [hr]
          exact x_callV [pI 59] [] _ hMq10 ⟨q899, q901, qs19, q146, q902⟩ dv7_want rfl ⟨(Nat.le_of_ble_eq_true rfl), (Nat.le_of_ble_eq_true rfl)⟩ (c_recv zcl_7 tb9) (by rw [← eb9]; rfl) (Nat.le_of_ble_eq_true rfl) dX7_sum_32 hczq10 ht q1082
        · rw [zq10] at hf hMq10
          replace hf := telR hf
          refine t_callV [pI 59] [] _ hMq10 ⟨q899, q901, qs19, q146, q902⟩ dv7_want rfl ⟨(Nat.le_of_ble_eq_true rfl), (Nat.le_of_ble_eq_true rfl)⟩ (c_recv zcl_7 tb9) (by rw [← eb9]; rfl) (Nat.le_of_ble_eq_true rfl) dX7_sum_32 hczq10 ?_
          refine j_iload_n dX7_sum_35 0 rfl ?_
          replace hf := retU hf
          subst hf
          exact t_ofret (j_ireturn (bC_mv G A) (hcs_ret (x := ()) (r := ()) hcs) rfl dX7_sum_36)
  · replace hf := ie h16 hf
    obtain ⟨q13, kq13, mq13, k_q13, m_q13, hq13, hf, hkq13, hmq13⟩ := bdU_s hf
    obtain ⟨hczq13, hcs⟩ := hcs_step hcs hkq13 hmq13
    refine c_new (ci := 8) hq13 zcl_8 zmk_8 q667 dX7_sum_4 hczq13 ?_
    refine j_dup dX7_sum_7 rfl ?_
    refine j_bipush dX7_sum_8 (by decide) ?_
    refine j_aload_n dX7_sum_10 0 rfl ?_
    obtain ⟨x14, hx14, hf⟩ := ob hf
    refine c_geti (ci := 7) (k := 2) hx14 zcl_7 (Nat.le_of_ble_eq_true rfl) zf_X7_43 fk_282 dX7_sum_11 ?_
    obtain ⟨u15, hu15, hf⟩ := ob hf
    refine c_callI [pI 6, pI x14] [pR (some q13.1)] _ (t8_init hfl (some q13.1) 6 x14 q13.2 hu15) ⟨q706, q707, q150, q708, rfl, rfl⟩ dv8_init rfl ⟨(Nat.le_of_ble_eq_true rfl), (Nat.le_of_ble_eq_true rfl)⟩ rfl (Nat.le_of_ble_eq_true rfl) dX7_sum_14 (hcs_ret (x := ()) (r := ()) hcs) ?_
    obtain ⟨ht, hr⟩ := xth_s hf
    rw [hr]
    exact t_athrow ht q1082 (hcs_ret (x := ()) (r := ()) hcs) dX7_sum_17
theorem t7_item_b193 {G : CG} {A : Nat → Prop} {l : Launch} {a : List PV} {mc ms ce sl : Nat} (hfl : l.stackTraces = false) {r : (Nat ⊕ (Unit)) × Sg} {c0 n0 : Nat} (v0 : Option Nat) (s0 : Int) (u : Sg) (hcs : ce + c0 ≤ mc ∧ sl + n0 ≤ ms) (hf : f7_item_b193 G v0 s0 u = some (r, c0, n0)) : JW kC (bC G A) A l D7_item a (tQQ yX7_item G A a (omV r.1) r.2 mc ms) mc ms u ce sl 193 [(0, pR v0)] [pI s0] := by
  unfold f7_item_b193 at hf
  refine j_istore_n dX7_item_193 [(1, pI s0), (0, pR v0)] (Nat.le_of_ble_eq_true rfl) rfl ?_
  refine j_iload_n dX7_item_194 0 rfl ?_
  refine j_if_ge (w32 s0) rfl 211 dX7_item_195 (by decide) (fun h8 => ?_) (fun h8 => ?_)
  · replace hf := it h8 hf
    refine j_aload_n dX7_item_211 1 rfl ?_
    refine j_iload_n dX7_item_212 0 rfl ?_
    obtain ⟨b1, hb1, hf⟩ := ob hf
    obtain ⟨eb1, tb1⟩ := ztg_s hb1
    obtain ⟨q2, kq2, mq2, k_q2, m_q2, hq2, hf, hkq2, hmq2⟩ := bdU_s hf
    obtain ⟨hczq2, hcs⟩ := hcs_step hcs hkq2 hmq2
    have hMq2 := t7_priceRow (A := A) hfl (some b1) s0 u hq2
    rcases zq2 : q2.1 with e3 | x4
    · rw [zq2] at hf hMq2
      replace hf := telL hf
      obtain ⟨ht, hr⟩ := xth_s hf
      rw [hr]
      exact x_callV [pI s0] [] _ hMq2 ⟨q1101, q1103, qs33, q146, q1104⟩ dv7_priceRow rfl ⟨(Nat.le_of_ble_eq_true rfl), (Nat.le_of_ble_eq_true rfl)⟩ (c_recv zcl_7 tb1) (by rw [← eb1]; rfl) (Nat.le_of_ble_eq_true rfl) dX7_item_213 hczq2 ht q785
    · rw [zq2] at hf hMq2
      replace hf := telR hf
      refine t_callV [pI s0] [] _ hMq2 ⟨q1101, q1103, qs33, q146, q1104⟩ dv7_priceRow rfl ⟨(Nat.le_of_ble_eq_true rfl), (Nat.le_of_ble_eq_true rfl)⟩ (c_recv zcl_7 tb1) (by rw [← eb1]; rfl) (Nat.le_of_ble_eq_true rfl) dX7_item_213 hczq2 ?_
      replace hf := retU hf
      subst hf
      exact t_ofret (j_return (bC_mv G A) (hcs_ret (x := ()) (r := ()) hcs) rfl dX7_item_216)
  · replace hf := ie h8 hf
    obtain ⟨q5, kq5, mq5, k_q5, m_q5, hq5, hf, hkq5, hmq5⟩ := bdU_s hf
    obtain ⟨hczq5, hcs⟩ := hcs_step hcs hkq5 hmq5
    refine c_new (ci := 8) hq5 zcl_8 zmk_8 q667 dX7_item_198 hczq5 ?_
    refine j_dup dX7_item_201 rfl ?_
    refine j_iconst dX7_item_202 ?_
    refine j_aload_n dX7_item_203 1 rfl ?_
    obtain ⟨x6, hx6, hf⟩ := ob hf
    refine c_geti (ci := 7) (k := 2) hx6 zcl_7 (Nat.le_of_ble_eq_true rfl) zf_X7_43 fk_282 dX7_item_204 ?_
    obtain ⟨u7, hu7, hf⟩ := ob hf
    refine c_callI [pI 2, pI x6] [pR (some q5.1)] _ (t8_init hfl (some q5.1) 2 x6 q5.2 hu7) ⟨q706, q707, q150, q708, rfl, rfl⟩ dv8_init rfl ⟨(Nat.le_of_ble_eq_true rfl), (Nat.le_of_ble_eq_true rfl)⟩ rfl (Nat.le_of_ble_eq_true rfl) dX7_item_207 (hcs_ret (x := ()) (r := ()) hcs) ?_
    obtain ⟨ht, hr⟩ := xth_s hf
    rw [hr]
    exact t_athrow ht q785 (hcs_ret (x := ()) (r := ()) hcs) dX7_item_210
theorem t7_item {G : CG} {A : Nat → Prop} {l : Launch} (hfl : l.stackTraces = false) {r : (Nat ⊕ (Unit)) × Sg} {c0 n0 : Nat} (v0 : Option Nat) (u : Sg) (hf : f7_item G v0 u = some (r, c0, n0)) : JMT G A l yX7_item D7_item [pR v0] u (omV r.1) r.2 c0 n0 := by
  refine t_met (lv0 := [(0, pR v0)]) ⟨pl_X7, rfl, rfl, (Nat.le_of_ble_eq_true rfl), rfl⟩ ?_
  have hcs : 0 + c0 ≤ c0 ∧ 0 + n0 ≤ n0 := ⟨by omega, by omega⟩
  unfold f7_item at hf
  refine j_aload_n dX7_item_0 0 rfl ?_
  refine j_ldc2 (z := 1717658484) q786 (by decide) dX7_item_1 ?_
  obtain ⟨b1, hb1, hf⟩ := ob hf
  obtain ⟨eb1, tb1⟩ := ztg_s hb1
  obtain ⟨x2, hx2, hf⟩ := ob hf
  refine a_Vr [pL 1717658484] [] (t7_is (some b1) 1717658484 u hx2) ⟨q787, q789, qs12, q146, q790⟩ dv7_is rfl ⟨(Nat.le_of_ble_eq_true rfl), (Nat.le_of_ble_eq_true rfl)⟩ (c_recv zcl_7 tb1) (by rw [← eb1]; rfl) (Nat.le_of_ble_eq_true rfl) dX7_item_4 (hcs_ret (x := ()) (r := ()) hcs) ?_
  refine j_if_eq (w32 x2) rfl 17 dX7_item_7 (by decide) (fun h66 => ?_) (fun h66 => ?_)
  · replace hf := it h66 hf
    refine j_aload_n dX7_item_17 0 rfl ?_
    refine j_ldc2 (z := 1835360622) q905 (by decide) dX7_item_18 ?_
    obtain ⟨b3, hb3, hf⟩ := ob hf
    obtain ⟨eb3, tb3⟩ := ztg_s hb3
    obtain ⟨x4, hx4, hf⟩ := ob hf
    refine a_Vr [pL 1835360622] [] (t7_is (some b3) 1835360622 u hx4) ⟨q787, q789, qs12, q146, q790⟩ dv7_is rfl ⟨(Nat.le_of_ble_eq_true rfl), (Nat.le_of_ble_eq_true rfl)⟩ (c_recv zcl_7 tb3) (by rw [← eb3]; rfl) (Nat.le_of_ble_eq_true rfl) dX7_item_21 (hcs_ret (x := ()) (r := ()) hcs) ?_
    refine j_if_eq (w32 x4) rfl 34 dX7_item_24 (by decide) (fun h61 => ?_) (fun h61 => ?_)
    · replace hf := it h61 hf
      refine j_aload_n dX7_item_34 0 rfl ?_
      obtain ⟨b5, hb5, hf⟩ := ob hf
      obtain ⟨eb5, tb5⟩ := ztg_s hb5
      obtain ⟨x6, hx6, hf⟩ := ob hf
      refine a_Vr [] [] (t7_isClause (some b5) u hx6) ⟨q1046, q1048, qs28, q146, q1049⟩ dv7_isClause rfl ⟨(Nat.le_of_ble_eq_true rfl), (Nat.le_of_ble_eq_true rfl)⟩ (c_recv zcl_7 tb5) (by rw [← eb5]; rfl) (Nat.le_of_ble_eq_true rfl) dX7_item_35 (hcs_ret (x := ()) (r := ()) hcs) ?_
      refine j_if_eq (w32 x6) rfl 92 dX7_item_38 (by decide) (fun h56 => ?_) (fun h56 => ?_)
      · replace hf := it h56 hf
        refine j_aload_n dX7_item_92 0 rfl ?_
        refine j_ldc2 (z := 439855772532) q1077 (by decide) dX7_item_93 ?_
        obtain ⟨b7, hb7, hf⟩ := ob hf
        obtain ⟨eb7, tb7⟩ := ztg_s hb7
        obtain ⟨x8, hx8, hf⟩ := ob hf
        refine a_Vr [pL 439855772532] [] (t7_is (some b7) 439855772532 u hx8) ⟨q787, q789, qs12, q146, q790⟩ dv7_is rfl ⟨(Nat.le_of_ble_eq_true rfl), (Nat.le_of_ble_eq_true rfl)⟩ (c_recv zcl_7 tb7) (by rw [← eb7]; rfl) (Nat.le_of_ble_eq_true rfl) dX7_item_96 (hcs_ret (x := ()) (r := ()) hcs) ?_
        refine j_if_eq (w32 x8) rfl 126 dX7_item_99 (by decide) (fun h39 => ?_) (fun h39 => ?_)
        · replace hf := it h39 hf
          refine j_aload_n dX7_item_126 0 rfl ?_
          refine j_ldc2 (z := 495672455781) q1083 (by decide) dX7_item_127 ?_
          obtain ⟨b9, hb9, hf⟩ := ob hf
          obtain ⟨eb9, tb9⟩ := ztg_s hb9
          obtain ⟨x10, hx10, hf⟩ := ob hf
          refine a_Vr [pL 495672455781] [] (t7_is (some b9) 495672455781 u hx10) ⟨q787, q789, qs12, q146, q790⟩ dv7_is rfl ⟨(Nat.le_of_ble_eq_true rfl), (Nat.le_of_ble_eq_true rfl)⟩ (c_recv zcl_7 tb9) (by rw [← eb9]; rfl) (Nat.le_of_ble_eq_true rfl) dX7_item_130 (hcs_ret (x := ()) (r := ()) hcs) ?_
          refine j_if_eq (w32 x10) rfl 160 dX7_item_133 (by decide) (fun h30 => ?_) (fun h30 => ?_)
          · replace hf := it h30 hf
            refine j_aload_n dX7_item_160 0 rfl ?_
            refine j_ldc2 (z := 1836020596) q1084 (by decide) dX7_item_161 ?_
            obtain ⟨b11, hb11, hf⟩ := ob hf
            obtain ⟨eb11, tb11⟩ := ztg_s hb11
            obtain ⟨x12, hx12, hf⟩ := ob hf
            refine a_Vr [pL 1836020596] [] (t7_is (some b11) 1836020596 u hx12) ⟨q787, q789, qs12, q146, q790⟩ dv7_is rfl ⟨(Nat.le_of_ble_eq_true rfl), (Nat.le_of_ble_eq_true rfl)⟩ (c_recv zcl_7 tb11) (by rw [← eb11]; rfl) (Nat.le_of_ble_eq_true rfl) dX7_item_164 (hcs_ret (x := ()) (r := ()) hcs) ?_
            refine j_if_eq (w32 x12) rfl 177 dX7_item_167 (by decide) (fun h21 => ?_) (fun h21 => ?_)
            · replace hf := it h21 hf
              refine j_aload_n dX7_item_177 0 rfl ?_
              obtain ⟨x13, hx13, hf⟩ := ob hf
              refine c_geti (ci := 7) (k := 1) hx13 zcl_7 (Nat.le_of_ble_eq_true rfl) zf_X7_46 fk_281 dX7_item_178 ?_
              refine j_iconst dX7_item_181 ?_
              refine j_icmp_ne (w32 x13) 4 rfl rfl 192 dX7_item_182 (by decide) (fun h16 => ?_) (fun h16 => ?_)
              · replace hf := ie h16 hf
                refine j_iconst dX7_item_192 ?_
                exact j_sub [0] _ rfl (t7_item_b193 hfl v0 (-1) u hcs hf)
              · replace hf := it h16 hf
                refine j_aload_n dX7_item_185 0 rfl ?_
                obtain ⟨b14, hb14, hf⟩ := ob hf
                obtain ⟨eb14, tb14⟩ := ztg_s hb14
                obtain ⟨x15, hx15, hf⟩ := ob hf
                refine a_Vr [] [] (t7_priceKind (some b14) u hx15) ⟨q1092, q1094, qs32, q146, q1095⟩ dv7_priceKind rfl ⟨(Nat.le_of_ble_eq_true rfl), (Nat.le_of_ble_eq_true rfl)⟩ (c_recv zcl_7 tb14) (by rw [← eb14]; rfl) (Nat.le_of_ble_eq_true rfl) dX7_item_186 (hcs_ret (x := ()) (r := ()) hcs) ?_
                refine j_goto 193 dX7_item_189 (by decide) ?_
                exact j_sub [0] _ rfl (t7_item_b193 hfl v0 x15 u hcs hf)
            · replace hf := ie h21 hf
              refine j_aload_n dX7_item_170 0 rfl ?_
              obtain ⟨b17, hb17, hf⟩ := ob hf
              obtain ⟨eb17, tb17⟩ := ztg_s hb17
              obtain ⟨q18, kq18, mq18, k_q18, m_q18, hq18, hf, hkq18, hmq18⟩ := bdU_s hf
              obtain ⟨hczq18, hcs⟩ := hcs_step hcs hkq18 hmq18
              have hMq18 := t7_most (A := A) hfl (some b17) u hq18
              rcases zq18 : q18.1 with e19 | x20
              · rw [zq18] at hf hMq18
                replace hf := telL hf
                obtain ⟨ht, hr⟩ := xth_s hf
                rw [hr]
                exact x_callV [] [] _ hMq18 ⟨q1085, q1087, qs31, q146, q1088⟩ dv7_most rfl ⟨(Nat.le_of_ble_eq_true rfl), (Nat.le_of_ble_eq_true rfl)⟩ (c_recv zcl_7 tb17) (by rw [← eb17]; rfl) (Nat.le_of_ble_eq_true rfl) dX7_item_171 hczq18 ht q785
              · rw [zq18] at hf hMq18
                replace hf := telR hf
                refine t_callV [] [] _ hMq18 ⟨q1085, q1087, qs31, q146, q1088⟩ dv7_most rfl ⟨(Nat.le_of_ble_eq_true rfl), (Nat.le_of_ble_eq_true rfl)⟩ (c_recv zcl_7 tb17) (by rw [← eb17]; rfl) (Nat.le_of_ble_eq_true rfl) dX7_item_171 hczq18 ?_
                refine j_goto 216 dX7_item_174 (by decide) ?_
                replace hf := retU hf
                subst hf
                exact t_ofret (j_return (bC_mv G A) (hcs_ret (x := ()) (r := ()) hcs) rfl dX7_item_216)
          · replace hf := ie h30 hf
            refine j_aload_n dX7_item_136 0 rfl ?_
            obtain ⟨x22, hx22, hf⟩ := ob hf
            refine c_geta (ci := 7) (k := 6) hx22 zcl_7 (Nat.le_of_ble_eq_true rfl) zf_X7_15 fk_286 dX7_item_137 ?_
            refine j_aload_n dX7_item_140 0 rfl ?_
            refine j_aload_n dX7_item_141 0 rfl ?_
            obtain ⟨x23, hx23, hf⟩ := ob hf
            refine c_geta (ci := 7) (k := 6) hx23 zcl_7 (Nat.le_of_ble_eq_true rfl) zf_X7_15 fk_286 dX7_item_142 ?_
            obtain ⟨x24, hx24, hf⟩ := ob hf
            refine c_getiN (ci := 6) (k := 6) hx24 zcl_6 (Nat.le_of_ble_eq_true rfl) zf_X7_334 fk_246 dX7_item_145 ?_
            refine j_sipush dX7_item_148 (by decide) ?_
            obtain ⟨b25, hb25, hf⟩ := ob hf
            obtain ⟨eb25, tb25⟩ := ztg_s hb25
            obtain ⟨q26, kq26, mq26, k_q26, m_q26, hq26, hf, hkq26, hmq26⟩ := bdU_s hf
            obtain ⟨hczq26, hcs⟩ := hcs_step hcs hkq26 hmq26
            have hMq26 := t7_sum (A := A) hfl (some b25) x24 1000 u hq26
            rcases zq26 : q26.1 with e27 | x28
            · rw [zq26] at hf hMq26
              replace hf := telL hf
              obtain ⟨ht, hr⟩ := xth_s hf
              rw [hr]
              exact x_callV [pI x24, pI 1000] [pR x22] _ hMq26 ⟨q1079, q1081, qs30, q146, q1082⟩ dv7_sum rfl ⟨(Nat.le_of_ble_eq_true rfl), (Nat.le_of_ble_eq_true rfl)⟩ (c_recv zcl_7 tb25) (by rw [← eb25]; rfl) (Nat.le_of_ble_eq_true rfl) dX7_item_151 hczq26 ht q785
            · rw [zq26] at hf hMq26
              replace hf := telR hf
              refine t_callV [pI x24, pI 1000] [pR x22] _ hMq26 ⟨q1079, q1081, qs30, q146, q1082⟩ dv7_sum rfl ⟨(Nat.le_of_ble_eq_true rfl), (Nat.le_of_ble_eq_true rfl)⟩ (c_recv zcl_7 tb25) (by rw [← eb25]; rfl) (Nat.le_of_ble_eq_true rfl) dX7_item_151 hczq26 ?_
              obtain ⟨u29, hu29, hf⟩ := ob hf
              refine c_putiN (ci := 6) (k := 6) hu29 zcl_6 (Nat.le_of_ble_eq_true rfl) zf_X7_334 fk_246 rfl fits_I dX7_item_154 ?_
              refine j_goto 216 dX7_item_157 (by decide) ?_
              replace hf := retU hf
              subst hf
              exact t_ofret (j_return (bC_mv G A) (hcs_ret (x := ()) (r := ()) hcs) rfl dX7_item_216)
        · replace hf := ie h39 hf
          refine j_aload_n dX7_item_102 0 rfl ?_
          obtain ⟨x31, hx31, hf⟩ := ob hf
          refine c_geta (ci := 7) (k := 6) hx31 zcl_7 (Nat.le_of_ble_eq_true rfl) zf_X7_15 fk_286 dX7_item_103 ?_
          refine j_aload_n dX7_item_106 0 rfl ?_
          refine j_aload_n dX7_item_107 0 rfl ?_
          obtain ⟨x32, hx32, hf⟩ := ob hf
          refine c_geta (ci := 7) (k := 6) hx32 zcl_7 (Nat.le_of_ble_eq_true rfl) zf_X7_15 fk_286 dX7_item_108 ?_
          obtain ⟨x33, hx33, hf⟩ := ob hf
          refine c_getiN (ci := 6) (k := 5) hx33 zcl_6 (Nat.le_of_ble_eq_true rfl) zf_X7_326 fk_245 dX7_item_111 ?_
          refine j_ldcw (z := 99999999) q1078 (by decide) dX7_item_114 ?_
          obtain ⟨b34, hb34, hf⟩ := ob hf
          obtain ⟨eb34, tb34⟩ := ztg_s hb34
          obtain ⟨q35, kq35, mq35, k_q35, m_q35, hq35, hf, hkq35, hmq35⟩ := bdU_s hf
          obtain ⟨hczq35, hcs⟩ := hcs_step hcs hkq35 hmq35
          have hMq35 := t7_sum (A := A) hfl (some b34) x33 99999999 u hq35
          rcases zq35 : q35.1 with e36 | x37
          · rw [zq35] at hf hMq35
            replace hf := telL hf
            obtain ⟨ht, hr⟩ := xth_s hf
            rw [hr]
            exact x_callV [pI x33, pI 99999999] [pR x31] _ hMq35 ⟨q1079, q1081, qs30, q146, q1082⟩ dv7_sum rfl ⟨(Nat.le_of_ble_eq_true rfl), (Nat.le_of_ble_eq_true rfl)⟩ (c_recv zcl_7 tb34) (by rw [← eb34]; rfl) (Nat.le_of_ble_eq_true rfl) dX7_item_117 hczq35 ht q785
          · rw [zq35] at hf hMq35
            replace hf := telR hf
            refine t_callV [pI x33, pI 99999999] [pR x31] _ hMq35 ⟨q1079, q1081, qs30, q146, q1082⟩ dv7_sum rfl ⟨(Nat.le_of_ble_eq_true rfl), (Nat.le_of_ble_eq_true rfl)⟩ (c_recv zcl_7 tb34) (by rw [← eb34]; rfl) (Nat.le_of_ble_eq_true rfl) dX7_item_117 hczq35 ?_
            obtain ⟨u38, hu38, hf⟩ := ob hf
            refine c_putiN (ci := 6) (k := 5) hu38 zcl_6 (Nat.le_of_ble_eq_true rfl) zf_X7_326 fk_245 rfl fits_I dX7_item_120 ?_
            refine j_goto 216 dX7_item_123 (by decide) ?_
            replace hf := retU hf
            subst hf
            exact t_ofret (j_return (bC_mv G A) (hcs_ret (x := ()) (r := ()) hcs) rfl dX7_item_216)
      · replace hf := ie h56 hf
        refine j_aload_n dX7_item_41 0 rfl ?_
        obtain ⟨x40, hx40, hf⟩ := ob hf
        refine c_geta (ci := 7) (k := 6) hx40 zcl_7 (Nat.le_of_ble_eq_true rfl) zf_X7_15 fk_286 dX7_item_42 ?_
        obtain ⟨x41, hx41, hf⟩ := ob hf
        refine c_getaN (ci := 6) (k := 3) hx41 zcl_6 (Nat.le_of_ble_eq_true rfl) zf_X7_317 fk_243 dX7_item_45 ?_
        obtain ⟨b42, hb42, hf⟩ := ob hf
        obtain ⟨eb42, tb42⟩ := ztg_s hb42
        obtain ⟨x43, hx43, hf⟩ := ob hf
        refine a_Fr (x := ix_0) [] [] (tJ2_size (some b42) u hx43) ⟨q839, q559, q561, q131, q563⟩ iF_0 df_0 rfl ⟨(Nat.le_of_ble_eq_true rfl), (Nat.le_of_ble_eq_true rfl)⟩ zcl_5 rfl tb42 (by rw [← eb42]; rfl) (Nat.le_of_ble_eq_true rfl) dX7_item_48 (hcs_ret (x := ()) (r := ()) hcs) ?_
        refine j_bipush dX7_item_53 (by decide) ?_
        refine j_icmp_ne (w32 x43) 24 rfl rfl 72 dX7_item_55 (by decide) (fun h55 => ?_) (fun h55 => ?_)
        · replace hf := ie h55 hf
          refine j_aload_n dX7_item_72 0 rfl ?_
          obtain ⟨x44, hx44, hf⟩ := ob hf
          refine c_geta (ci := 7) (k := 6) hx44 zcl_7 (Nat.le_of_ble_eq_true rfl) zf_X7_15 fk_286 dX7_item_73 ?_
          obtain ⟨x45, hx45, hf⟩ := ob hf
          refine c_getaN (ci := 6) (k := 3) hx45 zcl_6 (Nat.le_of_ble_eq_true rfl) zf_X7_317 fk_243 dX7_item_76 ?_
          refine j_aload_n dX7_item_79 0 rfl ?_
          obtain ⟨b46, hb46, hf⟩ := ob hf
          obtain ⟨eb46, tb46⟩ := ztg_s hb46
          obtain ⟨q47, kq47, mq47, k_q47, m_q47, hq47, hf, hkq47, hmq47⟩ := bdU_s hf
          obtain ⟨hczq47, hcs⟩ := hcs_step hcs hkq47 hmq47
          have hMq47 := t7_clause (A := A) hfl (some b46) u hq47
          rcases zq47 : q47.1 with e48 | x49
          · rw [zq47] at hf hMq47
            replace hf := telL hf
            obtain ⟨ht, hr⟩ := xth_s hf
            rw [hr]
            exact x_callV [] [pR x45] _ hMq47 ⟨q1053, q1055, qs29, q146, q1056⟩ dv7_clause rfl ⟨(Nat.le_of_ble_eq_true rfl), (Nat.le_of_ble_eq_true rfl)⟩ (c_recv zcl_7 tb46) (by rw [← eb46]; rfl) (Nat.le_of_ble_eq_true rfl) dX7_item_80 hczq47 ht q785
          · rw [zq47] at hf hMq47
            replace hf := telR hf
            refine t_callV [] [pR x45] _ hMq47 ⟨q1053, q1055, qs29, q146, q1056⟩ dv7_clause rfl ⟨(Nat.le_of_ble_eq_true rfl), (Nat.le_of_ble_eq_true rfl)⟩ (c_recv zcl_7 tb46) (by rw [← eb46]; rfl) (Nat.le_of_ble_eq_true rfl) dX7_item_80 hczq47 ?_
            obtain ⟨b50, hb50, hf⟩ := ob hf
            obtain ⟨eb50, tb50⟩ := ztg_s hb50
            obtain ⟨q51, kq51, mq51, k_q51, m_q51, hq51, hf, hkq51, hmq51⟩ := bdU_s hf
            obtain ⟨hczq51, hcs⟩ := hcs_step hcs hkq51 hmq51
            refine a_Fr (x := ix_2) [pR x49] [] (tJ2_add (some b50) x49 q47.2 hq51) ⟨q904, q325, q327, q131, q329⟩ iF_2 df_2 rfl ⟨(Nat.le_of_ble_eq_true rfl), (Nat.le_of_ble_eq_true rfl)⟩ zcl_5 rfl tb50 (by rw [← eb50]; rfl) (Nat.le_of_ble_eq_true rfl) dX7_item_83 hczq51 ?_
            refine j_pop dX7_item_88 rfl ?_
            refine j_goto 216 dX7_item_89 (by decide) ?_
            replace hf := retU hf
            subst hf
            exact t_ofret (j_return (bC_mv G A) (hcs_ret (x := ()) (r := ()) hcs) rfl dX7_item_216)
        · replace hf := it h55 hf
          obtain ⟨q52, kq52, mq52, k_q52, m_q52, hq52, hf, hkq52, hmq52⟩ := bdU_s hf
          obtain ⟨hczq52, hcs⟩ := hcs_step hcs hkq52 hmq52
          refine c_new (ci := 8) hq52 zcl_8 zmk_8 q667 dX7_item_58 hczq52 ?_
          refine j_dup dX7_item_61 rfl ?_
          refine j_bipush dX7_item_62 (by decide) ?_
          refine j_aload_n dX7_item_64 0 rfl ?_
          obtain ⟨x53, hx53, hf⟩ := ob hf
          refine c_geti (ci := 7) (k := 2) hx53 zcl_7 (Nat.le_of_ble_eq_true rfl) zf_X7_43 fk_282 dX7_item_65 ?_
          obtain ⟨u54, hu54, hf⟩ := ob hf
          refine c_callI [pI 6, pI x53] [pR (some q52.1)] _ (t8_init hfl (some q52.1) 6 x53 q52.2 hu54) ⟨q706, q707, q150, q708, rfl, rfl⟩ dv8_init rfl ⟨(Nat.le_of_ble_eq_true rfl), (Nat.le_of_ble_eq_true rfl)⟩ rfl (Nat.le_of_ble_eq_true rfl) dX7_item_68 (hcs_ret (x := ()) (r := ()) hcs) ?_
          obtain ⟨ht, hr⟩ := xth_s hf
          rw [hr]
          exact t_athrow ht q785 (hcs_ret (x := ()) (r := ()) hcs) dX7_item_71
    · replace hf := ie h61 hf
      refine j_aload_n dX7_item_27 0 rfl ?_
      obtain ⟨b57, hb57, hf⟩ := ob hf
      obtain ⟨eb57, tb57⟩ := ztg_s hb57
      obtain ⟨q58, kq58, mq58, k_q58, m_q58, hq58, hf, hkq58, hmq58⟩ := bdU_s hf
      obtain ⟨hczq58, hcs⟩ := hcs_step hcs hkq58 hmq58
      have hMq58 := t7_meaning (A := A) hfl (some b57) u hq58
      rcases zq58 : q58.1 with e59 | x60
      · rw [zq58] at hf hMq58
        replace hf := telL hf
        obtain ⟨ht, hr⟩ := xth_s hf
        rw [hr]
        exact x_callV [] [] _ hMq58 ⟨q906, q908, qs20, q146, q909⟩ dv7_meaning rfl ⟨(Nat.le_of_ble_eq_true rfl), (Nat.le_of_ble_eq_true rfl)⟩ (c_recv zcl_7 tb57) (by rw [← eb57]; rfl) (Nat.le_of_ble_eq_true rfl) dX7_item_28 hczq58 ht q785
      · rw [zq58] at hf hMq58
        replace hf := telR hf
        refine t_callV [] [] _ hMq58 ⟨q906, q908, qs20, q146, q909⟩ dv7_meaning rfl ⟨(Nat.le_of_ble_eq_true rfl), (Nat.le_of_ble_eq_true rfl)⟩ (c_recv zcl_7 tb57) (by rw [← eb57]; rfl) (Nat.le_of_ble_eq_true rfl) dX7_item_28 hczq58 ?_
        refine j_goto 216 dX7_item_31 (by decide) ?_
        replace hf := retU hf
        subst hf
        exact t_ofret (j_return (bC_mv G A) (hcs_ret (x := ()) (r := ()) hcs) rfl dX7_item_216)
  · replace hf := ie h66 hf
    refine j_aload_n dX7_item_10 0 rfl ?_
    obtain ⟨b62, hb62, hf⟩ := ob hf
    obtain ⟨eb62, tb62⟩ := ztg_s hb62
    obtain ⟨q63, kq63, mq63, k_q63, m_q63, hq63, hf, hkq63, hmq63⟩ := bdU_s hf
    obtain ⟨hczq63, hcs⟩ := hcs_step hcs hkq63 hmq63
    have hMq63 := t7_fact (A := A) hfl (some b62) u hq63
    rcases zq63 : q63.1 with e64 | x65
    · rw [zq63] at hf hMq63
      replace hf := telL hf
      obtain ⟨ht, hr⟩ := xth_s hf
      rw [hr]
      exact x_callV [] [] _ hMq63 ⟨q791, q793, qs13, q146, q794⟩ dv7_fact rfl ⟨(Nat.le_of_ble_eq_true rfl), (Nat.le_of_ble_eq_true rfl)⟩ (c_recv zcl_7 tb62) (by rw [← eb62]; rfl) (Nat.le_of_ble_eq_true rfl) dX7_item_11 hczq63 ht q785
    · rw [zq63] at hf hMq63
      replace hf := telR hf
      refine t_callV [] [] _ hMq63 ⟨q791, q793, qs13, q146, q794⟩ dv7_fact rfl ⟨(Nat.le_of_ble_eq_true rfl), (Nat.le_of_ble_eq_true rfl)⟩ (c_recv zcl_7 tb62) (by rw [← eb62]; rfl) (Nat.le_of_ble_eq_true rfl) dX7_item_11 hczq63 ?_
      refine j_goto 216 dX7_item_14 (by decide) ?_
      replace hf := retU hf
      subst hf
      exact t_ofret (j_return (bC_mv G A) (hcs_ret (x := ()) (r := ()) hcs) rfl dX7_item_216)
theorem t7_wording_l0 {G : CG} {A : Nat → Prop} {l : Launch} {a : List PV} {mc ms : Nat} (hfl : l.stackTraces = false) {r : (Nat ⊕ (Unit)) × Sg} {Kf : (Nat × Sg) ⊕ (Sg) → Option (((Nat ⊕ (Unit)) × Sg) × Nat × Nat)} (v0 : Option Nat) (hX : ∀ (e : Nat × Sg) {c0 n0 : Nat}, Kf (.inl e) = some (r, c0, n0) → zT e.2 e.1 = 9 ∧ r = (.inl e.1, e.2)) (hK0 : ∀ (q : Sg) {ce sl c0 n0 : Nat}, ce + c0 ≤ mc ∧ sl + n0 ≤ ms → Kf (.inr q) = some (r, c0, n0) → JW kC (bC G A) A l D7_wording a (tQQ yX7_wording G A a (omV r.1) r.2 mc ms) mc ms q ce sl 14 [] []) : ∀ (n : Nat) (u : Sg) {ce sl c0 n0 : Nat}, ce + c0 ≤ mc ∧ sl + n0 ≤ ms → (bdU (f7_wording_l0 G v0 n u) Kf = some (r, c0, n0)) → JW kC (bC G A) A l D7_wording a (tQQ yX7_wording G A a (omV r.1) r.2 mc ms) mc ms u ce sl 0 [(0, pR v0)] [] := by
  intro n
  induction n with
  | zero => intro u ce sl c0 n0 hcs hf; exact onK hf
  | succ n ih =>
    intro u ce sl c0 n0 hcs hf
    unfold f7_wording_l0 at hf
    refine j_aload_n dX7_wording_0 0 rfl ?_
    obtain ⟨x1, hx1, hf⟩ := obK hf
    refine c_geti (ci := 7) (k := 1) hx1 zcl_7 (Nat.le_of_ble_eq_true rfl) zf_X7_46 fk_281 dX7_wording_1 ?_
    refine j_if_eq (w32 x1) rfl 14 dX7_wording_4 (by decide) (fun h6 => ?_) (fun h6 => ?_)
    · replace hf := itK h6 hf
      exact j_sub [] _ rfl (hK0 u hcs (bdU_0 hf))
    · replace hf := ieK h6 hf
      refine j_aload_n dX7_wording_7 0 rfl ?_
      obtain ⟨b2, hb2, hf⟩ := obK hf
      obtain ⟨eb2, tb2⟩ := ztg_s hb2
      replace hf := bdU_a hf
      obtain ⟨q3, kq3, mq3, k_q3, m_q3, hq3, hf, hkq3, hmq3⟩ := bdU_s hf
      obtain ⟨hczq3, hcs⟩ := hcs_step hcs hkq3 hmq3
      have hMq3 := t7_item (A := A) hfl (some b2) u hq3
      rcases zq3 : q3.1 with e4 | x5
      · rw [zq3] at hf hMq3
        replace hf := telLK hf
        obtain ⟨ht, hr⟩ := hX _ (bdU_0 hf)
        rw [hr]
        exact x_callV [] [] _ hMq3 ⟨q782, q784, qs11, q146, q785⟩ dv7_item rfl ⟨(Nat.le_of_ble_eq_true rfl), (Nat.le_of_ble_eq_true rfl)⟩ (c_recv zcl_7 tb2) (by rw [← eb2]; rfl) (Nat.le_of_ble_eq_true rfl) dX7_wording_8 hczq3 ht q781
      · rw [zq3] at hf hMq3
        replace hf := telRK hf
        refine t_callV [] [] _ hMq3 ⟨q782, q784, qs11, q146, q785⟩ dv7_item rfl ⟨(Nat.le_of_ble_eq_true rfl), (Nat.le_of_ble_eq_true rfl)⟩ (c_recv zcl_7 tb2) (by rw [← eb2]; rfl) (Nat.le_of_ble_eq_true rfl) dX7_wording_8 hczq3 ?_
        refine j_goto 0 dX7_wording_11 (by decide) ?_
        exact j_sub [0] _ rfl (ih q3.2 hcs hf)
theorem t7_wording {G : CG} {A : Nat → Prop} {l : Launch} (hfl : l.stackTraces = false) {r : (Nat ⊕ (Unit)) × Sg} {c0 n0 : Nat} (v0 : Option Nat) (u : Sg) (hf : f7_wording G v0 u = some (r, c0, n0)) : JMT G A l yX7_wording D7_wording [pR v0] u (omV r.1) r.2 c0 n0 := by
  refine t_met (lv0 := [(0, pR v0)]) ⟨pl_X7, rfl, rfl, (Nat.le_of_ble_eq_true rfl), rfl⟩ ?_
  have hcs : 0 + c0 ≤ c0 ∧ 0 + n0 ≤ n0 := ⟨by omega, by omega⟩
  unfold f7_wording at hf
  refine j_sub [0] _ rfl (t7_wording_l0 hfl v0 ?_ ?_ NN u hcs hf)
  · intro e2 c0 n0 hf
    simp only [Sum.elim_inl] at hf
    exact xth_s hf
  · intro q1 ceq1 slq1 cq1 nq1 hcs hf
    simp only [Sum.elim_inl, Sum.elim_inr] at hf
    replace hf := retU hf
    subst hf
    exact t_ofret (j_return (bC_mv G A) (hcs_ret (x := ()) (r := ()) hcs) rfl dX7_wording_14)
theorem t6_init {G : CG} {A : Nat → Prop} {l : Launch} {r : Sg} {c0 n0 : Nat} (v0 : Option Nat) (u : Sg) (hf : f6_init G v0 u = some (r, c0, n0)) : JM kC (bC G A) A l yX6_init D6_init [pR v0] u none r c0 n0 := by
  refine j_met (lv0 := [(0, pR v0)]) ⟨pl_X6, rfl, rfl, (Nat.le_of_ble_eq_true rfl), rfl⟩ ?_
  have hcs : 0 + c0 ≤ c0 ∧ 0 + n0 ≤ n0 := ⟨by omega, by omega⟩
  unfold f6_init at hf
  refine j_aload_n dX6_init_0 0 rfl ?_
  obtain ⟨b1, eb1, hg⟩ := ob hf
  clear hf
  subst eb1
  have hf := hg
  clear hg
  refine c_objInit q569 q177 q178 (Nat.le_of_ble_eq_true rfl) (Nat.le_of_ble_eq_true rfl) (Nat.le_of_ble_eq_true rfl) dX6_init_1 ?_
  refine j_aload_n dX6_init_4 0 rfl ?_
  obtain ⟨q2, kq2, mq2, k_q2, m_q2, hq2, hf, hkq2, hmq2⟩ := bdU_s hf
  obtain ⟨hczq2, hcs⟩ := hcs_step hcs hkq2 hmq2
  refine c_new (ci := 5) hq2 zcl_5 zmk_5 q570 dX6_init_5 hczq2 ?_
  refine j_dup dX6_init_8 rfl ?_
  obtain ⟨u3, hu3, hf⟩ := ob hf
  refine c_callI [] [pR (some q2.1), pR (some b1)] _ (tJ2_init (some q2.1) q2.2 hu3) ⟨q571, q211, q131, q212, rfl, rfl⟩ dvJ2_init rfl ⟨(Nat.le_of_ble_eq_true rfl), (Nat.le_of_ble_eq_true rfl)⟩ rfl (Nat.le_of_ble_eq_true rfl) dX6_init_9 (hcs_ret (x := ()) (r := ()) hcs) ?_
  obtain ⟨u4, hu4, hf⟩ := ob hf
  refine c_putaF (ci := 6) (k := 0) hu4 zcl_6 (Nat.le_of_ble_eq_true rfl) zf_X6_12 fk_240 rfl rfl rfl fits_O dX6_init_12 ?_
  refine j_aload_n dX6_init_15 0 rfl ?_
  obtain ⟨q5, kq5, mq5, k_q5, m_q5, hq5, hf, hkq5, hmq5⟩ := bdU_s hf
  obtain ⟨hczq5, hcs⟩ := hcs_step hcs hkq5 hmq5
  refine c_new (ci := 5) hq5 zcl_5 zmk_5 q570 dX6_init_16 hczq5 ?_
  refine j_dup dX6_init_19 rfl ?_
  obtain ⟨u6, hu6, hf⟩ := ob hf
  refine c_callI [] [pR (some q5.1), pR (some b1)] _ (tJ2_init (some q5.1) q5.2 hu6) ⟨q571, q211, q131, q212, rfl, rfl⟩ dvJ2_init rfl ⟨(Nat.le_of_ble_eq_true rfl), (Nat.le_of_ble_eq_true rfl)⟩ rfl (Nat.le_of_ble_eq_true rfl) dX6_init_20 (hcs_ret (x := ()) (r := ()) hcs) ?_
  obtain ⟨u7, hu7, hf⟩ := ob hf
  refine c_putaF (ci := 6) (k := 1) hu7 zcl_6 (Nat.le_of_ble_eq_true rfl) zf_X6_18 fk_241 rfl rfl rfl fits_O dX6_init_23 ?_
  refine j_aload_n dX6_init_26 0 rfl ?_
  obtain ⟨q8, kq8, mq8, k_q8, m_q8, hq8, hf, hkq8, hmq8⟩ := bdU_s hf
  obtain ⟨hczq8, hcs⟩ := hcs_step hcs hkq8 hmq8
  refine c_new (ci := 5) hq8 zcl_5 zmk_5 q570 dX6_init_27 hczq8 ?_
  refine j_dup dX6_init_30 rfl ?_
  obtain ⟨u9, hu9, hf⟩ := ob hf
  refine c_callI [] [pR (some q8.1), pR (some b1)] _ (tJ2_init (some q8.1) q8.2 hu9) ⟨q571, q211, q131, q212, rfl, rfl⟩ dvJ2_init rfl ⟨(Nat.le_of_ble_eq_true rfl), (Nat.le_of_ble_eq_true rfl)⟩ rfl (Nat.le_of_ble_eq_true rfl) dX6_init_31 (hcs_ret (x := ()) (r := ()) hcs) ?_
  obtain ⟨u10, hu10, hf⟩ := ob hf
  refine c_putaF (ci := 6) (k := 2) hu10 zcl_6 (Nat.le_of_ble_eq_true rfl) zf_X6_21 fk_242 rfl rfl rfl fits_O dX6_init_34 ?_
  refine j_aload_n dX6_init_37 0 rfl ?_
  obtain ⟨q11, kq11, mq11, k_q11, m_q11, hq11, hf, hkq11, hmq11⟩ := bdU_s hf
  obtain ⟨hczq11, hcs⟩ := hcs_step hcs hkq11 hmq11
  refine c_new (ci := 5) hq11 zcl_5 zmk_5 q570 dX6_init_38 hczq11 ?_
  refine j_dup dX6_init_41 rfl ?_
  obtain ⟨u12, hu12, hf⟩ := ob hf
  refine c_callI [] [pR (some q11.1), pR (some b1)] _ (tJ2_init (some q11.1) q11.2 hu12) ⟨q571, q211, q131, q212, rfl, rfl⟩ dvJ2_init rfl ⟨(Nat.le_of_ble_eq_true rfl), (Nat.le_of_ble_eq_true rfl)⟩ rfl (Nat.le_of_ble_eq_true rfl) dX6_init_42 (hcs_ret (x := ()) (r := ()) hcs) ?_
  obtain ⟨u13, hu13, hf⟩ := ob hf
  refine c_putaF (ci := 6) (k := 3) hu13 zcl_6 (Nat.le_of_ble_eq_true rfl) zf_X6_24 fk_243 rfl rfl rfl fits_O dX6_init_45 ?_
  refine j_aload_n dX6_init_48 0 rfl ?_
  obtain ⟨q14, kq14, mq14, k_q14, m_q14, hq14, hf, hkq14, hmq14⟩ := bdU_s hf
  obtain ⟨hczq14, hcs⟩ := hcs_step hcs hkq14 hmq14
  refine c_new (ci := 5) hq14 zcl_5 zmk_5 q570 dX6_init_49 hczq14 ?_
  refine j_dup dX6_init_52 rfl ?_
  obtain ⟨u15, hu15, hf⟩ := ob hf
  refine c_callI [] [pR (some q14.1), pR (some b1)] _ (tJ2_init (some q14.1) q14.2 hu15) ⟨q571, q211, q131, q212, rfl, rfl⟩ dvJ2_init rfl ⟨(Nat.le_of_ble_eq_true rfl), (Nat.le_of_ble_eq_true rfl)⟩ rfl (Nat.le_of_ble_eq_true rfl) dX6_init_53 (hcs_ret (x := ()) (r := ()) hcs) ?_
  obtain ⟨u16, hu16, hf⟩ := ob hf
  refine c_putaF (ci := 6) (k := 4) hu16 zcl_6 (Nat.le_of_ble_eq_true rfl) zf_X6_27 fk_244 rfl rfl rfl fits_O dX6_init_56 ?_
  refine j_aload_n dX6_init_59 0 rfl ?_
  refine j_bipush dX6_init_60 (by decide) ?_
  obtain ⟨u17, hu17, hf⟩ := ob hf
  refine c_puti (ci := 6) (k := 5) hu17 zcl_6 (Nat.le_of_ble_eq_true rfl) zf_X6_30 fk_245 rfl fits_I dX6_init_62 ?_
  refine j_aload_n dX6_init_65 0 rfl ?_
  refine j_bipush dX6_init_66 (by decide) ?_
  obtain ⟨u18, hu18, hf⟩ := ob hf
  refine c_puti (ci := 6) (k := 6) hu18 zcl_6 (Nat.le_of_ble_eq_true rfl) zf_X6_34 fk_246 rfl fits_I dX6_init_68 ?_
  refine j_aload_n dX6_init_71 0 rfl ?_
  refine j_iconst dX6_init_72 ?_
  obtain ⟨q19, kq19, mq19, k_q19, m_q19, hq19, hf, hkq19, hmq19⟩ := bdU_s hf
  obtain ⟨hczq19, hcs⟩ := hcs_step hcs hkq19 hmq19
  refine c_newa hq19 zat_1 dX6_init_73 hczq19 ?_
  refine j_dup dX6_init_75 rfl ?_
  refine j_iconst dX6_init_76 ?_
  refine j_bipush dX6_init_77 (by decide) ?_
  obtain ⟨u20, hu20, hf⟩ := ob hf
  refine c_iast hu20 dX6_init_79 ?_
  refine j_dup dX6_init_80 rfl ?_
  refine j_iconst dX6_init_81 ?_
  refine j_bipush dX6_init_82 (by decide) ?_
  obtain ⟨u21, hu21, hf⟩ := ob hf
  refine c_iast hu21 dX6_init_84 ?_
  refine j_dup dX6_init_85 rfl ?_
  refine j_iconst dX6_init_86 ?_
  refine j_bipush dX6_init_87 (by decide) ?_
  obtain ⟨u22, hu22, hf⟩ := ob hf
  refine c_iast hu22 dX6_init_89 ?_
  obtain ⟨u23, hu23, hf⟩ := ob hf
  refine c_putaF (ci := 6) (k := 7) hu23 zcl_6 (Nat.le_of_ble_eq_true rfl) zf_X6_37 fk_247 rfl rfl rfl fits_A dX6_init_90 ?_
  refine j_aload_n dX6_init_93 0 rfl ?_
  obtain ⟨q24, kq24, mq24, k_q24, m_q24, hq24, hf, hkq24, hmq24⟩ := bdU_s hf
  obtain ⟨hczq24, hcs⟩ := hcs_step hcs hkq24 hmq24
  refine c_new (ci := 5) hq24 zcl_5 zmk_5 q570 dX6_init_94 hczq24 ?_
  refine j_dup dX6_init_97 rfl ?_
  obtain ⟨u25, hu25, hf⟩ := ob hf
  refine c_callI [] [pR (some q24.1), pR (some b1)] _ (tJ2_init (some q24.1) q24.2 hu25) ⟨q571, q211, q131, q212, rfl, rfl⟩ dvJ2_init rfl ⟨(Nat.le_of_ble_eq_true rfl), (Nat.le_of_ble_eq_true rfl)⟩ rfl (Nat.le_of_ble_eq_true rfl) dX6_init_98 (hcs_ret (x := ()) (r := ()) hcs) ?_
  obtain ⟨u26, hu26, hf⟩ := ob hf
  refine c_putaF (ci := 6) (k := 10) hu26 zcl_6 (Nat.le_of_ble_eq_true rfl) zf_X6_41 fk_250 rfl rfl rfl fits_O dX6_init_101 ?_
  replace hf := retU hf
  subst hf
  exact j_return (bC_mv G A) (hcs_ret (x := ()) (r := ()) hcs) rfl dX6_init_104
theorem t0_wording_b61 {G : CG} {A : Nat → Prop} {l : Launch} {a : List PV} {mc ms ce sl : Nat} (hfl : l.stackTraces = false) {r : Int × Sg} {c0 n0 : Nat} (v0 : Option Nat) (v1 : Int) (u : Sg) (hcs : ce + c0 ≤ mc ∧ sl + n0 ≤ ms) (hf : f0_wording_b61 G v0 v1 u = some (r, c0, n0)) : JW kC (bC G A) A l D0_wording a (tQQ yX0_wording G A a (.inr (some (pI r.1))) r.2 mc ms) mc ms u ce sl 61 [(0, pR v0), (1, pI v1)] [] := by
  unfold f0_wording_b61 at hf
  refine j_aload_n dX0_wording_61 0 rfl ?_
  refine j_iconst dX0_wording_62 ?_
  obtain ⟨u1, hu1, hf⟩ := ob hf
  refine c_puti (ci := 0) (k := 2) hu1 zcl_0 (Nat.le_of_ble_eq_true rfl) zf_X0_164 fk_2 rfl fits_I dX0_wording_63 ?_
  refine j_iload_n dX0_wording_66 1 rfl ?_
  replace hf := retU hf
  subst hf
  exact t_ofret (j_ireturn (bC_mv G A) (hcs_ret (x := ()) (r := ()) hcs) rfl dX0_wording_67)
theorem t0_wording_b54 {G : CG} {A : Nat → Prop} {l : Launch} {a : List PV} {mc ms ce sl : Nat} (hfl : l.stackTraces = false) {r : Int × Sg} {c0 n0 : Nat} (v0 : Option Nat) (s0 : Option Nat) (u : Sg) (hcs : ce + c0 ≤ mc ∧ sl + n0 ≤ ms) (hf : f0_wording_b54 G v0 s0 u = some (r, c0, n0)) : JW kC (bC G A) A l D0_wording a (tQQ yX0_wording G A a (.inr (some (pI r.1))) r.2 mc ms) mc ms u ce sl 54 [(0, pR v0)] [pR s0] := by
  unfold f0_wording_b54 at hf
  refine j_astore_n dX0_wording_54 [(2, pR s0), (0, pR v0)] (Nat.le_of_ble_eq_true rfl) rfl ?_
  refine j_aload_n dX0_wording_55 1 rfl ?_
  refine j_aload_n dX0_wording_56 0 rfl ?_
  obtain ⟨b1, hb1, hf⟩ := ob hf
  obtain ⟨eb1, tb1⟩ := ztg_s hb1
  obtain ⟨q2, hq2, hf⟩ := ob hf
  refine a_Vr [pR s0] [] (t0_failed (some b1) s0 u hq2) ⟨q1256, q1258, qs36, q128, q1259⟩ dv0_failed rfl ⟨(Nat.le_of_ble_eq_true rfl), (Nat.le_of_ble_eq_true rfl)⟩ (c_recv zcl_0 tb1) (by rw [← eb1]; rfl) (Nat.le_of_ble_eq_true rfl) dX0_wording_57 (hcs_ret (x := ()) (r := ()) hcs) ?_
  refine j_istore_n dX0_wording_60 [(1, pI q2.1), (2, pR s0), (0, pR v0)] (Nat.le_of_ble_eq_true rfl) rfl ?_
  exact j_sub [2, 0] _ rfl (t0_wording_b61 hfl v0 q2.1 q2.2 hcs hf)
theorem t0_wording {G : CG} {A : Nat → Prop} {l : Launch} (hfl : l.stackTraces = false) {r : Int × Sg} {c0 n0 : Nat} (v0 : Option Nat) (u : Sg) (hf : f0_wording G v0 u = some (r, c0, n0)) : JMH G A l yX0_wording D0_wording [(22, 51, 54, 168)] [pR v0] u (some (pI r.1)) r.2 c0 n0 := by
  refine h_met (lv0 := [(0, pR v0)]) ⟨pl_X0, rfl, rfl, (Nat.le_of_ble_eq_true rfl), rfl⟩ ?_
  have hcs : 0 + c0 ≤ c0 ∧ 0 + n0 ≤ n0 := ⟨by omega, by omega⟩
  unfold f0_wording at hf
  refine j_aload_n dX0_wording_0 0 rfl ?_
  obtain ⟨x1, hx1, hf⟩ := ob hf
  refine c_geta (ci := 0) (k := 5) hx1 zcl_0 (Nat.le_of_ble_eq_true rfl) zf_X0_82 fk_5 dX0_wording_1 ?_
  obtain ⟨b2, hb2, hf⟩ := ob hf
  obtain ⟨eb2, tb2⟩ := ztg_s hb2
  obtain ⟨x3, hx3, hf⟩ := ob hf
  refine a_Fr (x := ix_0) [] [] (tJ2_size (some b2) u hx3) ⟨q556, q559, q561, q131, q563⟩ iF_0 df_0 rfl ⟨(Nat.le_of_ble_eq_true rfl), (Nat.le_of_ble_eq_true rfl)⟩ zcl_5 rfl tb2 (by rw [← eb2]; rfl) (Nat.le_of_ble_eq_true rfl) dX0_wording_4 (hcs_ret (x := ()) (r := ()) hcs) ?_
  refine j_bipush dX0_wording_9 (by decide) ?_
  refine j_icmp_ne (w32 x3) 12 rfl rfl 17 dX0_wording_11 (by decide) (fun h22 => ?_) (fun h22 => ?_)
  · replace hf := ie h22 hf
    refine j_aload_n dX0_wording_17 0 rfl ?_
    refine j_iconst dX0_wording_18 ?_
    obtain ⟨u4, hu4, hf⟩ := ob hf
    refine c_puti (ci := 0) (k := 3) hu4 zcl_0 (Nat.le_of_ble_eq_true rfl) zf_X0_75 fk_3 rfl fits_I dX0_wording_19 ?_
    obtain ⟨q5, kq5, mq5, k_q5, m_q5, hq5, hf, hkq5, hmq5⟩ := bdU_s hf
    obtain ⟨hczq5, hcs⟩ := hcs_step hcs hkq5 hmq5
    refine c_new (ci := 6) hq5 zcl_6 zmk_6 q564 dX0_wording_22 hczq5 ?_
    refine j_dup dX0_wording_25 rfl ?_
    obtain ⟨q6, kq6, mq6, k_q6, m_q6, hq6, hf, hkq6, hmq6⟩ := bdU_s hf
    obtain ⟨hczq6, hcs⟩ := hcs_step hcs hkq6 hmq6
    refine c_callIN [] [pR (some q5.1)] _ (t6_init (some q5.1) q5.2 hq6) ⟨q566, q567, q145, q568, rfl, rfl⟩ dv6_init rfl ⟨(Nat.le_of_ble_eq_true rfl), (Nat.le_of_ble_eq_true rfl)⟩ rfl (Nat.le_of_ble_eq_true rfl) dX0_wording_26 hczq6 ?_
    refine j_astore_n dX0_wording_29 [(2, pR (some q5.1)), (0, pR v0)] (Nat.le_of_ble_eq_true rfl) rfl ?_
    obtain ⟨q7, kq7, mq7, k_q7, m_q7, hq7, hf, hkq7, hmq7⟩ := bdU_s hf
    obtain ⟨hczq7, hcs⟩ := hcs_step hcs hkq7 hmq7
    refine c_new (ci := 7) hq7 zcl_7 zmk_7 q641 dX0_wording_30 hczq7 ?_
    refine j_dup dX0_wording_33 rfl ?_
    refine j_aload_n dX0_wording_34 1 rfl ?_
    refine j_aload_n dX0_wording_35 0 rfl ?_
    refine j_sipush dX0_wording_36 (by decide) ?_
    obtain ⟨q8, kq8, mq8, k_q8, m_q8, hq8, hf, hkq8, hmq8⟩ := bdU_s hf
    obtain ⟨hczq8, hcs⟩ := hcs_step hcs hkq8 hmq8
    have hMq8 := t7_init (A := A) hfl (some q7.1) v0 (some q5.1) 300 q7.2 hq8
    rcases zq8 : q8.1 with e9 | x10
    · rw [zq8] at hf hMq8
      replace hf := telL hf
      obtain ⟨b21, hb21, hf⟩ := ob hf
      obtain ⟨eb21, tb21⟩ := ztg_s hb21
      have te9 : zT q8.2 e9 = 9 := by cases eb21; exact tb21
      refine hc_callI [pR v0, pR (some q5.1), pI 300] [pR (some q7.1)] _ hMq8 ⟨q643, q644, q146, q645, rfl, rfl⟩ dv7_init rfl ⟨(Nat.le_of_ble_eq_true rfl), (Nat.le_of_ble_eq_true rfl)⟩ rfl (Nat.le_of_ble_eq_true rfl) dX0_wording_39 hczq8 te9 q553 ⟨by decide, by decide, by decide⟩ q554 ?_
      exact j_sub [1] _ rfl (t0_wording_b54 hfl v0 (some e9) q8.2 hcs hf)
    · rw [zq8] at hf hMq8
      replace hf := telR hf
      refine t_callI [pR v0, pR (some q5.1), pI 300] [pR (some q7.1)] _ hMq8 ⟨q643, q644, q146, q645, rfl, rfl⟩ dv7_init rfl ⟨(Nat.le_of_ble_eq_true rfl), (Nat.le_of_ble_eq_true rfl)⟩ rfl (Nat.le_of_ble_eq_true rfl) dX0_wording_39 hczq8 ?_
      obtain ⟨b11, hb11, hf⟩ := ob hf
      obtain ⟨eb11, tb11⟩ := ztg_s hb11
      obtain ⟨q12, kq12, mq12, k_q12, m_q12, hq12, hf, hkq12, hmq12⟩ := bdU_s hf
      obtain ⟨hczq12, hcs⟩ := hcs_step hcs hkq12 hmq12
      have hMq12 := t7_wording (A := A) hfl (some b11) q8.2 hq12
      rcases zq12 : q12.1 with e13 | x14
      · rw [zq12] at hf hMq12
        replace hf := telL hf
        obtain ⟨b20, hb20, hf⟩ := ob hf
        obtain ⟨eb20, tb20⟩ := ztg_s hb20
        have te13 : zT q12.2 e13 = 9 := by cases eb20; exact tb20
        refine hc_callV [] [] _ hMq12 ⟨q778, q779, q780, q146, q781⟩ dv7_wording rfl ⟨(Nat.le_of_ble_eq_true rfl), (Nat.le_of_ble_eq_true rfl)⟩ (c_recv zcl_7 tb11) (by rw [← eb11]; rfl) (Nat.le_of_ble_eq_true rfl) dX0_wording_42 hczq12 te13 q553 ⟨by decide, by decide, by decide⟩ q554 ?_
        exact j_sub [1] _ rfl (t0_wording_b54 hfl v0 (some e13) q12.2 hcs hf)
      · rw [zq12] at hf hMq12
        replace hf := telR hf
        refine t_callV [] [] _ hMq12 ⟨q778, q779, q780, q146, q781⟩ dv7_wording rfl ⟨(Nat.le_of_ble_eq_true rfl), (Nat.le_of_ble_eq_true rfl)⟩ (c_recv zcl_7 tb11) (by rw [← eb11]; rfl) (Nat.le_of_ble_eq_true rfl) dX0_wording_42 hczq12 ?_
        refine j_aload_n dX0_wording_45 1 rfl ?_
        refine j_aload_n dX0_wording_46 0 rfl ?_
        obtain ⟨b15, hb15, hf⟩ := ob hf
        obtain ⟨eb15, tb15⟩ := ztg_s hb15
        obtain ⟨q16, kq16, mq16, k_q16, m_q16, hq16, hf, hkq16, hmq16⟩ := bdU_s hf
        obtain ⟨hczq16, hcs⟩ := hcs_step hcs hkq16 hmq16
        have hMq16 := t0_finish (A := A) hfl (some b15) (some q5.1) q12.2 hq16
        rcases zq16 : q16.1 with e17 | x18
        · rw [zq16] at hf hMq16
          replace hf := telL hf
          obtain ⟨b19, hb19, hf⟩ := ob hf
          obtain ⟨eb19, tb19⟩ := ztg_s hb19
          have te17 : zT q16.2 e17 = 9 := by cases eb19; exact tb19
          refine hc_callV [pR (some q5.1)] [] _ hMq16 ⟨q1133, q1135, qs35, q128, q1136⟩ dv0_finish rfl ⟨(Nat.le_of_ble_eq_true rfl), (Nat.le_of_ble_eq_true rfl)⟩ (c_recv zcl_0 tb15) (by rw [← eb15]; rfl) (Nat.le_of_ble_eq_true rfl) dX0_wording_47 hczq16 te17 q553 ⟨by decide, by decide, by decide⟩ q554 ?_
          exact j_sub [1] _ rfl (t0_wording_b54 hfl v0 (some e17) q16.2 hcs hf)
        · rw [zq16] at hf hMq16
          replace hf := telR hf
          refine t_callV [pR (some q5.1)] [] _ hMq16 ⟨q1133, q1135, qs35, q128, q1136⟩ dv0_finish rfl ⟨(Nat.le_of_ble_eq_true rfl), (Nat.le_of_ble_eq_true rfl)⟩ (c_recv zcl_0 tb15) (by rw [← eb15]; rfl) (Nat.le_of_ble_eq_true rfl) dX0_wording_47 hczq16 ?_
          refine j_istore_n dX0_wording_50 [(1, pI x18), (2, pR (some q5.1)), (0, pR v0)] (Nat.le_of_ble_eq_true rfl) rfl ?_
          refine j_goto 61 dX0_wording_51 (by decide) ?_
          exact j_sub [2, 0] _ rfl (t0_wording_b61 hfl v0 x18 q16.2 hcs hf)
  · replace hf := it h22 hf
    refine j_bipush dX0_wording_14 (by decide) ?_
    replace hf := retU hf
    subst hf
    exact t_ofret (j_ireturn (bC_mv G A) (hcs_ret (x := ()) (r := ()) hcs) rfl dX0_wording_16)
theorem t0_isWording {G : CG} {A : Nat → Prop} {l : Launch} {r : Int} (v0 : Option Nat) (v1 : Int) (u : Sg) (hf : f0_isWording G v0 v1 u = some r) : JM kC (bC G A) A l yX0_isWording D0_isWording [pR v0, pI v1] u (some (pI r)) u 0 0 := by
  refine j_met (lv0 := [(0, pR v0), (1, pI v1)]) ⟨pl_X0, rfl, rfl, (Nat.le_of_ble_eq_true rfl), rfl⟩ ?_
  unfold f0_isWording at hf
  refine j_iload_n dX0_isWording_0 1 rfl ?_
  refine j_if_le (w32 v1) rfl 21 dX0_isWording_1 (by decide) (fun h5 => ?_) (fun h5 => ?_)
  · replace hf := it h5 hf
    refine j_iconst dX0_isWording_21 ?_
    replace hf := Option.some.inj hf
    subst hf
    exact j_zreturn (x := 0) (bC_mv G A) ⟨Nat.le_refl 0, Nat.le_refl 0⟩ (ty := .boolean) rfl (nar_z (Or.inl rfl)) dX0_isWording_22
  · replace hf := ie h5 hf
    refine j_iload_n dX0_isWording_4 1 rfl ?_
    refine j_aload_n dX0_isWording_5 0 rfl ?_
    obtain ⟨x1, hx1, hf⟩ := ob hf
    refine c_geta (ci := 0) (k := 5) hx1 zcl_0 (Nat.le_of_ble_eq_true rfl) zf_X0_82 fk_5 dX0_isWording_6 ?_
    obtain ⟨b2, hb2, hf⟩ := ob hf
    obtain ⟨eb2, tb2⟩ := ztg_s hb2
    obtain ⟨x3, hx3, hf⟩ := ob hf
    refine a_Fr (x := ix_0) [] [pI v1] (tJ2_size (some b2) u hx3) ⟨q556, q559, q561, q131, q563⟩ iF_0 df_0 rfl ⟨(Nat.le_of_ble_eq_true rfl), (Nat.le_of_ble_eq_true rfl)⟩ zcl_5 rfl tb2 (by rw [← eb2]; rfl) (Nat.le_of_ble_eq_true rfl) dX0_isWording_9 ⟨Nat.le_refl 0, Nat.le_refl 0⟩ ?_
    refine j_icmp_gt (w32 v1) (w32 x3) rfl rfl 21 dX0_isWording_14 (by decide) (fun h4 => ?_) (fun h4 => ?_)
    · replace hf := it h4 hf
      refine j_iconst dX0_isWording_21 ?_
      replace hf := Option.some.inj hf
      subst hf
      exact j_zreturn (x := 0) (bC_mv G A) ⟨Nat.le_refl 0, Nat.le_refl 0⟩ (ty := .boolean) rfl (nar_z (Or.inl rfl)) dX0_isWording_22
    · replace hf := ie h4 hf
      refine j_iconst dX0_isWording_17 ?_
      refine j_goto 22 dX0_isWording_18 (by decide) ?_
      replace hf := Option.some.inj hf
      subst hf
      exact j_zreturn (x := 1) (bC_mv G A) ⟨Nat.le_refl 0, Nat.le_refl 0⟩ (ty := .boolean) rfl (nar_z (Or.inr rfl)) dX0_isWording_22
theorem t0_the {G : CG} {A : Nat → Prop} {l : Launch} {r : Option Nat} (v0 : Option Nat) (v1 : Int) (u : Sg) (hf : f0_the G v0 v1 u = some r) : JM kC (bC G A) A l yX0_the D0_the [pR v0, pI v1] u (some (pR r)) u 0 0 := by
  refine j_met (lv0 := [(0, pR v0), (1, pI v1)]) ⟨pl_X0, rfl, rfl, (Nat.le_of_ble_eq_true rfl), rfl⟩ ?_
  unfold f0_the at hf
  refine j_aload_n dX0_the_0 0 rfl ?_
  obtain ⟨x1, hx1, hf⟩ := ob hf
  refine c_geta (ci := 0) (k := 5) hx1 zcl_0 (Nat.le_of_ble_eq_true rfl) zf_X0_82 fk_5 dX0_the_1 ?_
  refine j_iload_n dX0_the_4 1 rfl ?_
  refine j_iconst dX0_the_5 ?_
  refine j_isub dX0_the_6 ?_
  obtain ⟨b2, hb2, hf⟩ := ob hf
  obtain ⟨eb2, tb2⟩ := ztg_s hb2
  obtain ⟨x3, hx3, hf⟩ := ob hf
  refine a_Fr (x := ix_1) [pI (v1 - 1)] [] (tJ2_get (some b2) (v1 - 1) u hx3) ⟨q1273, q813, q815, q131, q817⟩ iF_1 df_1 rfl ⟨(Nat.le_of_ble_eq_true rfl), (Nat.le_of_ble_eq_true rfl)⟩ zcl_5 rfl tb2 (by rw [← eb2]; rfl) (Nat.le_of_ble_eq_true rfl) dX0_the_7 ⟨Nat.le_refl 0, Nat.le_refl 0⟩ ?_
  obtain ⟨y4, hy4, hf⟩ := ob hf
  refine c_cast hy4 zok_Wording q564 dX0_the_12 ?_
  replace hf := Option.some.inj hf
  subst hf
  exact j_areturn (bC_mv G A) ⟨Nat.le_refl 0, Nat.le_refl 0⟩ rfl (Or.inl ⟨_, rfl⟩) dX0_the_15
theorem t7_endorsement_b191 {G : CG} {A : Nat → Prop} {l : Launch} {a : List PV} {mc ms : Nat} (hfl : l.stackTraces = false) {r : (Nat ⊕ (Unit)) × Sg} {Kf : (Nat × Sg) ⊕ ((Sg) ⊕ (Sg) ⊕ (Sg) ⊕ (Sg)) → Option (((Nat ⊕ (Unit)) × Sg) × Nat × Nat)} {v0 : Option Nat} {v2 : Option Nat} {v3 : Option Nat} {v4 : Option Nat} (kh : Sg → Option (((Nat × Sg) ⊕ ((Sg) ⊕ (Sg) ⊕ (Sg) ⊕ (Sg))) × Nat × Nat)) (hkh : ∀ (zu : Sg) {ce sl c0 n0 : Nat}, ce + c0 ≤ mc ∧ sl + n0 ≤ ms → (bdU (kh zu) Kf = some (r, c0, n0)) → JW kC (bC G A) A l D7_endorsement a (tQQ yX7_endorsement G A a (omV r.1) r.2 mc ms) mc ms zu ce sl 26 [(0, pR v0), (2, pR v2), (3, pR v3), (4, pR v4)] []) (hX : ∀ (e : Nat × Sg) {c0 n0 : Nat}, Kf (.inl e) = some (r, c0, n0) → zT e.2 e.1 = 9 ∧ r = (.inl e.1, e.2)) (hK0 : ∀ (q : Sg) {ce sl c0 n0 : Nat}, ce + c0 ≤ mc ∧ sl + n0 ≤ ms → Kf (.inr (.inl q)) = some (r, c0, n0) → JW kC (bC G A) A l D7_endorsement a (tQQ yX7_endorsement G A a (omV r.1) r.2 mc ms) mc ms q ce sl 119 [(0, pR v0)] []) (hK1 : ∀ (q : Sg) {ce sl c0 n0 : Nat}, ce + c0 ≤ mc ∧ sl + n0 ≤ ms → Kf (.inr (.inr (.inl q))) = some (r, c0, n0) → JW kC (bC G A) A l D7_endorsement a (tQQ yX7_endorsement G A a (omV r.1) r.2 mc ms) mc ms q ce sl 162 [(0, pR v0)] []) (hK2 : ∀ (q : Sg) {ce sl c0 n0 : Nat}, ce + c0 ≤ mc ∧ sl + n0 ≤ ms → Kf (.inr (.inr (.inr (.inl q)))) = some (r, c0, n0) → JW kC (bC G A) A l D7_endorsement a (tQQ yX7_endorsement G A a (omV r.1) r.2 mc ms) mc ms q ce sl 200 [(0, pR v0)] []) (hK3 : ∀ (q : Sg) {ce sl c0 n0 : Nat}, ce + c0 ≤ mc ∧ sl + n0 ≤ ms → Kf (.inr (.inr (.inr (.inr q)))) = some (r, c0, n0) → JW kC (bC G A) A l D7_endorsement a (tQQ yX7_endorsement G A a (omV r.1) r.2 mc ms) mc ms q ce sl 216 [(0, pR v0), (2, pR v2), (4, pR v4)] []) (s0 : Option Nat) (s1 : Int) (s2 : Option Nat) (u : Sg) {ce sl c0 n0 : Nat} (hcs : ce + c0 ≤ mc ∧ sl + n0 ≤ ms) (hf : bdU (f7_endorsement_b191 G kh v0 v2 v3 v4 s0 s1 s2 u) Kf = some (r, c0, n0)) : JW kC (bC G A) A l D7_endorsement a (tQQ yX7_endorsement G A a (omV r.1) r.2 mc ms) mc ms u ce sl 191 [(0, pR v0), (2, pR v2), (3, pR v3), (4, pR v4)] [pR s2, pI s1, pR s0] := by
  unfold f7_endorsement_b191 at hf
  obtain ⟨b1, hb1, hf⟩ := obK hf
  obtain ⟨eb1, tb1⟩ := ztg_s hb1
  obtain ⟨q2, hq2, hf⟩ := obK hf
  refine a_Fr (x := ix_4) [pI s1, pR s2] [] (tJ2_set (some b1) s1 s2 u hq2) ⟨q1321, q1324, q1326, q131, q1328⟩ iF_4 df_4 rfl ⟨(Nat.le_of_ble_eq_true rfl), (Nat.le_of_ble_eq_true rfl)⟩ zcl_5 rfl tb1 (by rw [← eb1]; rfl) (Nat.le_of_ble_eq_true rfl) dX7_endorsement_191 (hcs_ret (x := ()) (r := ()) hcs) ?_
  refine j_pop dX7_endorsement_196 rfl ?_
  refine j_goto 213 dX7_endorsement_197 (by decide) ?_
  refine j_goto 26 dX7_endorsement_213 (by decide) ?_
  exact j_sub [0, 1, 2, 3] _ rfl (hkh q2.2 hcs hf)
theorem t7_endorsement_b175 {G : CG} {A : Nat → Prop} {l : Launch} {a : List PV} {mc ms : Nat} (hfl : l.stackTraces = false) {r : (Nat ⊕ (Unit)) × Sg} {Kf : (Nat × Sg) ⊕ ((Sg) ⊕ (Sg) ⊕ (Sg) ⊕ (Sg)) → Option (((Nat ⊕ (Unit)) × Sg) × Nat × Nat)} {v0 : Option Nat} {v2 : Option Nat} {v3 : Option Nat} {v4 : Option Nat} (kh : Sg → Option (((Nat × Sg) ⊕ ((Sg) ⊕ (Sg) ⊕ (Sg) ⊕ (Sg))) × Nat × Nat)) (hkh : ∀ (zu : Sg) {ce sl c0 n0 : Nat}, ce + c0 ≤ mc ∧ sl + n0 ≤ ms → (bdU (kh zu) Kf = some (r, c0, n0)) → JW kC (bC G A) A l D7_endorsement a (tQQ yX7_endorsement G A a (omV r.1) r.2 mc ms) mc ms zu ce sl 26 [(0, pR v0), (2, pR v2), (3, pR v3), (4, pR v4)] []) (hX : ∀ (e : Nat × Sg) {c0 n0 : Nat}, Kf (.inl e) = some (r, c0, n0) → zT e.2 e.1 = 9 ∧ r = (.inl e.1, e.2)) (hK0 : ∀ (q : Sg) {ce sl c0 n0 : Nat}, ce + c0 ≤ mc ∧ sl + n0 ≤ ms → Kf (.inr (.inl q)) = some (r, c0, n0) → JW kC (bC G A) A l D7_endorsement a (tQQ yX7_endorsement G A a (omV r.1) r.2 mc ms) mc ms q ce sl 119 [(0, pR v0)] []) (hK1 : ∀ (q : Sg) {ce sl c0 n0 : Nat}, ce + c0 ≤ mc ∧ sl + n0 ≤ ms → Kf (.inr (.inr (.inl q))) = some (r, c0, n0) → JW kC (bC G A) A l D7_endorsement a (tQQ yX7_endorsement G A a (omV r.1) r.2 mc ms) mc ms q ce sl 162 [(0, pR v0)] []) (hK2 : ∀ (q : Sg) {ce sl c0 n0 : Nat}, ce + c0 ≤ mc ∧ sl + n0 ≤ ms → Kf (.inr (.inr (.inr (.inl q)))) = some (r, c0, n0) → JW kC (bC G A) A l D7_endorsement a (tQQ yX7_endorsement G A a (omV r.1) r.2 mc ms) mc ms q ce sl 200 [(0, pR v0)] []) (hK3 : ∀ (q : Sg) {ce sl c0 n0 : Nat}, ce + c0 ≤ mc ∧ sl + n0 ≤ ms → Kf (.inr (.inr (.inr (.inr q)))) = some (r, c0, n0) → JW kC (bC G A) A l D7_endorsement a (tQQ yX7_endorsement G A a (omV r.1) r.2 mc ms) mc ms q ce sl 216 [(0, pR v0), (2, pR v2), (4, pR v4)] []) (v5 : Int) (v6 : Int) (u : Sg) {ce sl c0 n0 : Nat} (hcs : ce + c0 ≤ mc ∧ sl + n0 ≤ ms) (hf : bdU (f7_endorsement_b175 G kh v0 v2 v3 v4 v5 v6 u) Kf = some (r, c0, n0)) : JW kC (bC G A) A l D7_endorsement a (tQQ yX7_endorsement G A a (omV r.1) r.2 mc ms) mc ms u ce sl 175 [(0, pR v0), (2, pR v2), (3, pR v3), (4, pR v4), (5, pI v5), (6, pI v6)] [] := by
  unfold f7_endorsement_b175 at hf
  refine j_aload_n dX7_endorsement_175 1 rfl ?_
  refine j_iload dX7_endorsement_176 5 rfl ?_
  refine j_iload dX7_endorsement_178 4 rfl ?_
  refine j_if_eq (w32 v5) rfl 187 dX7_endorsement_180 (by decide) (fun h5 => ?_) (fun h5 => ?_)
  · replace hf := itK h5 hf
    refine j_aload_n dX7_endorsement_187 0 rfl ?_
    obtain ⟨b1, hb1, hf⟩ := obK hf
    obtain ⟨eb1, tb1⟩ := ztg_s hb1
    replace hf := bdU_a hf
    obtain ⟨q2, kq2, mq2, k_q2, m_q2, hq2, hf, hkq2, hmq2⟩ := bdU_s hf
    obtain ⟨hczq2, hcs⟩ := hcs_step hcs hkq2 hmq2
    have hMq2 := t7_clause (A := A) hfl (some b1) u hq2
    rcases zq2 : q2.1 with e3 | x4
    · rw [zq2] at hf hMq2
      replace hf := telLK hf
      obtain ⟨ht, hr⟩ := hX _ (bdU_0 hf)
      rw [hr]
      exact x_callV [] [pI v6, pR v2] _ hMq2 ⟨q1053, q1055, qs29, q146, q1056⟩ dv7_clause rfl ⟨(Nat.le_of_ble_eq_true rfl), (Nat.le_of_ble_eq_true rfl)⟩ (c_recv zcl_7 tb1) (by rw [← eb1]; rfl) (Nat.le_of_ble_eq_true rfl) dX7_endorsement_188 hczq2 ht q1301
    · rw [zq2] at hf hMq2
      replace hf := telRK hf
      refine t_callV [] [pI v6, pR v2] _ hMq2 ⟨q1053, q1055, qs29, q146, q1056⟩ dv7_clause rfl ⟨(Nat.le_of_ble_eq_true rfl), (Nat.le_of_ble_eq_true rfl)⟩ (c_recv zcl_7 tb1) (by rw [← eb1]; rfl) (Nat.le_of_ble_eq_true rfl) dX7_endorsement_188 hczq2 ?_
      exact j_sub [0, 1, 2, 3] _ rfl (t7_endorsement_b191 hfl (kh) hkh hX hK0 hK1 hK2 hK3 v2 v6 x4 q2.2 hcs hf)
  · replace hf := ieK h5 hf
    refine j_null dX7_endorsement_183 ?_
    refine j_goto 191 dX7_endorsement_184 (by decide) ?_
    exact j_sub [0, 1, 2, 3] _ rfl (t7_endorsement_b191 hfl (kh) hkh hX hK0 hK1 hK2 hK3 v2 v6 none u hcs hf)
theorem t7_endorsement_b79 {G : CG} {A : Nat → Prop} {l : Launch} {a : List PV} {mc ms : Nat} (hfl : l.stackTraces = false) {r : (Nat ⊕ (Unit)) × Sg} {Kf : (Nat × Sg) ⊕ ((Sg) ⊕ (Sg) ⊕ (Sg) ⊕ (Sg)) → Option (((Nat ⊕ (Unit)) × Sg) × Nat × Nat)} {v0 : Option Nat} {v2 : Option Nat} {v3 : Option Nat} {v4 : Option Nat} (kh : Sg → Option (((Nat × Sg) ⊕ ((Sg) ⊕ (Sg) ⊕ (Sg) ⊕ (Sg))) × Nat × Nat)) (hkh : ∀ (zu : Sg) {ce sl c0 n0 : Nat}, ce + c0 ≤ mc ∧ sl + n0 ≤ ms → (bdU (kh zu) Kf = some (r, c0, n0)) → JW kC (bC G A) A l D7_endorsement a (tQQ yX7_endorsement G A a (omV r.1) r.2 mc ms) mc ms zu ce sl 26 [(0, pR v0), (2, pR v2), (3, pR v3), (4, pR v4)] []) (hX : ∀ (e : Nat × Sg) {c0 n0 : Nat}, Kf (.inl e) = some (r, c0, n0) → zT e.2 e.1 = 9 ∧ r = (.inl e.1, e.2)) (hK0 : ∀ (q : Sg) {ce sl c0 n0 : Nat}, ce + c0 ≤ mc ∧ sl + n0 ≤ ms → Kf (.inr (.inl q)) = some (r, c0, n0) → JW kC (bC G A) A l D7_endorsement a (tQQ yX7_endorsement G A a (omV r.1) r.2 mc ms) mc ms q ce sl 119 [(0, pR v0)] []) (hK1 : ∀ (q : Sg) {ce sl c0 n0 : Nat}, ce + c0 ≤ mc ∧ sl + n0 ≤ ms → Kf (.inr (.inr (.inl q))) = some (r, c0, n0) → JW kC (bC G A) A l D7_endorsement a (tQQ yX7_endorsement G A a (omV r.1) r.2 mc ms) mc ms q ce sl 162 [(0, pR v0)] []) (hK2 : ∀ (q : Sg) {ce sl c0 n0 : Nat}, ce + c0 ≤ mc ∧ sl + n0 ≤ ms → Kf (.inr (.inr (.inr (.inl q)))) = some (r, c0, n0) → JW kC (bC G A) A l D7_endorsement a (tQQ yX7_endorsement G A a (omV r.1) r.2 mc ms) mc ms q ce sl 200 [(0, pR v0)] []) (hK3 : ∀ (q : Sg) {ce sl c0 n0 : Nat}, ce + c0 ≤ mc ∧ sl + n0 ≤ ms → Kf (.inr (.inr (.inr (.inr q)))) = some (r, c0, n0) → JW kC (bC G A) A l D7_endorsement a (tQQ yX7_endorsement G A a (omV r.1) r.2 mc ms) mc ms q ce sl 216 [(0, pR v0), (2, pR v2), (4, pR v4)] []) (v5 : Int) (u : Sg) {ce sl c0 n0 : Nat} (hcs : ce + c0 ≤ mc ∧ sl + n0 ≤ ms) (hf : bdU (f7_endorsement_b79 G kh v0 v2 v3 v4 v5 u) Kf = some (r, c0, n0)) : JW kC (bC G A) A l D7_endorsement a (tQQ yX7_endorsement G A a (omV r.1) r.2 mc ms) mc ms u ce sl 79 [(0, pR v0), (2, pR v2), (3, pR v3), (4, pR v4), (5, pI v5)] [] := by
  unfold f7_endorsement_b79 at hf
  refine j_aload_n dX7_endorsement_79 0 rfl ?_
  obtain ⟨b1, hb1, hf⟩ := obK hf
  obtain ⟨eb1, tb1⟩ := ztg_s hb1
  replace hf := bdU_a hf
  obtain ⟨q2, kq2, mq2, k_q2, m_q2, hq2, hf, hkq2, hmq2⟩ := bdU_s hf
  obtain ⟨hczq2, hcs⟩ := hcs_step hcs hkq2 hmq2
  have hMq2 := t7_next (A := A) hfl (some b1) u hq2
  rcases zq2 : q2.1 with e3 | x4
  · rw [zq2] at hf hMq2
    replace hf := telLK hf
    obtain ⟨ht, hr⟩ := hX _ (bdU_0 hf)
    rw [hr]
    exact x_callV [] [] _ hMq2 ⟨q647, q649, qs3, q146, q650⟩ dv7_next rfl ⟨(Nat.le_of_ble_eq_true rfl), (Nat.le_of_ble_eq_true rfl)⟩ (c_recv zcl_7 tb1) (by rw [← eb1]; rfl) (Nat.le_of_ble_eq_true rfl) dX7_endorsement_80 hczq2 ht q1301
  · rw [zq2] at hf hMq2
    replace hf := telRK hf
    refine t_callV [] [] _ hMq2 ⟨q647, q649, qs3, q146, q650⟩ dv7_next rfl ⟨(Nat.le_of_ble_eq_true rfl), (Nat.le_of_ble_eq_true rfl)⟩ (c_recv zcl_7 tb1) (by rw [← eb1]; rfl) (Nat.le_of_ble_eq_true rfl) dX7_endorsement_80 hczq2 ?_
    refine j_aload_n dX7_endorsement_83 0 rfl ?_
    refine j_iconst dX7_endorsement_84 ?_
    obtain ⟨b5, hb5, hf⟩ := obK hf
    obtain ⟨eb5, tb5⟩ := ztg_s hb5
    replace hf := bdU_a hf
    obtain ⟨q6, kq6, mq6, k_q6, m_q6, hq6, hf, hkq6, hmq6⟩ := bdU_s hf
    obtain ⟨hczq6, hcs⟩ := hcs_step hcs hkq6 hmq6
    have hMq6 := t7_wantKind (A := A) hfl (some b5) 2 q2.2 hq6
    rcases zq6 : q6.1 with e7 | x8
    · rw [zq6] at hf hMq6
      replace hf := telLK hf
      obtain ⟨ht, hr⟩ := hX _ (bdU_0 hf)
      rw [hr]
      exact x_callV [pI 2] [] _ hMq6 ⟨q799, q801, qs15, q146, q802⟩ dv7_wantKind rfl ⟨(Nat.le_of_ble_eq_true rfl), (Nat.le_of_ble_eq_true rfl)⟩ (c_recv zcl_7 tb5) (by rw [← eb5]; rfl) (Nat.le_of_ble_eq_true rfl) dX7_endorsement_85 hczq6 ht q1301
    · rw [zq6] at hf hMq6
      replace hf := telRK hf
      refine t_callV [pI 2] [] _ hMq6 ⟨q799, q801, qs15, q146, q802⟩ dv7_wantKind rfl ⟨(Nat.le_of_ble_eq_true rfl), (Nat.le_of_ble_eq_true rfl)⟩ (c_recv zcl_7 tb5) (by rw [← eb5]; rfl) (Nat.le_of_ble_eq_true rfl) dX7_endorsement_85 hczq6 ?_
      refine j_aload_n dX7_endorsement_88 0 rfl ?_
      obtain ⟨x9, hx9, hf⟩ := obK hf
      refine c_geti (ci := 7) (k := 4) hx9 zcl_7 (Nat.le_of_ble_eq_true rfl) zf_X7_69 fk_284 dX7_endorsement_89 ?_
      refine j_iconst dX7_endorsement_92 ?_
      refine j_isub dX7_endorsement_93 ?_
      refine j_istore dX7_endorsement_94 [(6, pI (x9 - 1)), (0, pR v0), (2, pR v2), (3, pR v3), (4, pR v4), (5, pI v5)] (Nat.le_of_ble_eq_true rfl) rfl ?_
      refine j_iload dX7_endorsement_96 0 rfl ?_
      refine j_if_lt (w32 (x9 - 1)) rfl 119 dX7_endorsement_98 (by decide) (fun h28 => ?_) (fun h28 => ?_)
      · replace hf := itK h28 hf
        exact j_sub [1] _ rfl (hK0 q6.2 hcs (bdU_0 hf))
      · replace hf := ieK h28 hf
        refine j_iload dX7_endorsement_101 0 rfl ?_
        refine j_aload_n dX7_endorsement_103 2 rfl ?_
        obtain ⟨b10, hb10, hf⟩ := obK hf
        obtain ⟨eb10, tb10⟩ := ztg_s hb10
        obtain ⟨x11, hx11, hf⟩ := obK hf
        refine a_Fr (x := ix_0) [] [pI (x9 - 1)] (tJ2_size (some b10) q6.2 hx11) ⟨q839, q559, q561, q131, q563⟩ iF_0 df_0 rfl ⟨(Nat.le_of_ble_eq_true rfl), (Nat.le_of_ble_eq_true rfl)⟩ zcl_5 rfl tb10 (by rw [← eb10]; rfl) (Nat.le_of_ble_eq_true rfl) dX7_endorsement_104 (hcs_ret (x := ()) (r := ()) hcs) ?_
        refine j_icmp_ge (w32 (x9 - 1)) (w32 x11) rfl rfl 119 dX7_endorsement_109 (by decide) (fun h27 => ?_) (fun h27 => ?_)
        · replace hf := itK h27 hf
          exact j_sub [1] _ rfl (hK0 q6.2 hcs (bdU_0 hf))
        · replace hf := ieK h27 hf
          refine j_aload_n dX7_endorsement_112 3 rfl ?_
          refine j_iload dX7_endorsement_113 0 rfl ?_
          obtain ⟨x12, hx12, hf⟩ := obK hf
          refine c_zald hx12 dX7_endorsement_115 ?_
          refine j_if_eq (w32 x12) rfl 132 dX7_endorsement_116 (by decide) (fun h26 => ?_) (fun h26 => ?_)
          · replace hf := itK h26 hf
            refine j_aload_n dX7_endorsement_132 3 rfl ?_
            refine j_iload dX7_endorsement_133 0 rfl ?_
            refine j_iconst dX7_endorsement_135 ?_
            obtain ⟨u13, hu13, hf⟩ := obK hf
            refine c_zast hu13 dX7_endorsement_136 ?_
            refine j_aload_n dX7_endorsement_137 1 rfl ?_
            obtain ⟨b14, hb14, hf⟩ := obK hf
            obtain ⟨eb14, tb14⟩ := ztg_s hb14
            replace hf := bdU_a hf
            obtain ⟨q15, kq15, mq15, k_q15, m_q15, hq15, hf, hkq15, hmq15⟩ := bdU_s hf
            obtain ⟨hczq15, hcs⟩ := hcs_step hcs hkq15 hmq15
            have hMq15 := t7_next (A := A) hfl (some b14) u13 hq15
            rcases zq15 : q15.1 with e16 | x17
            · rw [zq15] at hf hMq15
              replace hf := telLK hf
              obtain ⟨ht, hr⟩ := hX _ (bdU_0 hf)
              rw [hr]
              exact x_callV [] [] _ hMq15 ⟨q647, q649, qs3, q146, q650⟩ dv7_next rfl ⟨(Nat.le_of_ble_eq_true rfl), (Nat.le_of_ble_eq_true rfl)⟩ (c_recv zcl_7 tb14) (by rw [← eb14]; rfl) (Nat.le_of_ble_eq_true rfl) dX7_endorsement_138 hczq15 ht q1301
            · rw [zq15] at hf hMq15
              replace hf := telRK hf
              refine t_callV [] [] _ hMq15 ⟨q647, q649, qs3, q146, q650⟩ dv7_next rfl ⟨(Nat.le_of_ble_eq_true rfl), (Nat.le_of_ble_eq_true rfl)⟩ (c_recv zcl_7 tb14) (by rw [← eb14]; rfl) (Nat.le_of_ble_eq_true rfl) dX7_endorsement_138 hczq15 ?_
              refine j_iload dX7_endorsement_141 5 rfl ?_
              refine j_if_eq (w32 v5) rfl 155 dX7_endorsement_143 (by decide) (fun h25 => ?_) (fun h25 => ?_)
              · replace hf := itK h25 hf
                refine j_aload_n dX7_endorsement_155 1 rfl ?_
                obtain ⟨b18, hb18, hf⟩ := obK hf
                obtain ⟨eb18, tb18⟩ := ztg_s hb18
                obtain ⟨x19, hx19, hf⟩ := obK hf
                refine a_Vr [] [] (t7_isClause (some b18) q15.2 hx19) ⟨q1046, q1048, qs28, q146, q1049⟩ dv7_isClause rfl ⟨(Nat.le_of_ble_eq_true rfl), (Nat.le_of_ble_eq_true rfl)⟩ (c_recv zcl_7 tb18) (by rw [← eb18]; rfl) (Nat.le_of_ble_eq_true rfl) dX7_endorsement_156 (hcs_ret (x := ()) (r := ()) hcs) ?_
                refine j_if_ne (w32 x19) rfl 175 dX7_endorsement_159 (by decide) (fun h20 => ?_) (fun h20 => ?_)
                · replace hf := ieK h20 hf
                  exact j_sub [1, 2, 3, 4, 5, 0] _ rfl (t7_endorsement_b175 hfl (kh) hkh hX hK0 hK1 hK2 hK3 v5 (x9 - 1) q15.2 hcs hf)
                · replace hf := itK h20 hf
                  exact j_sub [1] _ rfl (hK1 q15.2 hcs (bdU_0 hf))
              · replace hf := ieK h25 hf
                refine j_aload_n dX7_endorsement_146 1 rfl ?_
                refine j_bipush dX7_endorsement_147 (by decide) ?_
                obtain ⟨b21, hb21, hf⟩ := obK hf
                obtain ⟨eb21, tb21⟩ := ztg_s hb21
                replace hf := bdU_a hf
                obtain ⟨q22, kq22, mq22, k_q22, m_q22, hq22, hf, hkq22, hmq22⟩ := bdU_s hf
                obtain ⟨hczq22, hcs⟩ := hcs_step hcs hkq22 hmq22
                have hMq22 := t7_want (A := A) hfl (some b21) 59 q15.2 hq22
                rcases zq22 : q22.1 with e23 | x24
                · rw [zq22] at hf hMq22
                  replace hf := telLK hf
                  obtain ⟨ht, hr⟩ := hX _ (bdU_0 hf)
                  rw [hr]
                  exact x_callV [pI 59] [] _ hMq22 ⟨q899, q901, qs19, q146, q902⟩ dv7_want rfl ⟨(Nat.le_of_ble_eq_true rfl), (Nat.le_of_ble_eq_true rfl)⟩ (c_recv zcl_7 tb21) (by rw [← eb21]; rfl) (Nat.le_of_ble_eq_true rfl) dX7_endorsement_149 hczq22 ht q1301
                · rw [zq22] at hf hMq22
                  replace hf := telRK hf
                  refine t_callV [pI 59] [] _ hMq22 ⟨q899, q901, qs19, q146, q902⟩ dv7_want rfl ⟨(Nat.le_of_ble_eq_true rfl), (Nat.le_of_ble_eq_true rfl)⟩ (c_recv zcl_7 tb21) (by rw [← eb21]; rfl) (Nat.le_of_ble_eq_true rfl) dX7_endorsement_149 hczq22 ?_
                  refine j_goto 175 dX7_endorsement_152 (by decide) ?_
                  exact j_sub [1, 2, 3, 4, 5, 0] _ rfl (t7_endorsement_b175 hfl (kh) hkh hX hK0 hK1 hK2 hK3 v5 (x9 - 1) q22.2 hcs hf)
          · replace hf := ieK h26 hf
            exact j_sub [1] _ rfl (hK0 q6.2 hcs (bdU_0 hf))
theorem t7_endorsement_l26 {G : CG} {A : Nat → Prop} {l : Launch} {a : List PV} {mc ms : Nat} (hfl : l.stackTraces = false) {r : (Nat ⊕ (Unit)) × Sg} {Kf : (Nat × Sg) ⊕ ((Sg) ⊕ (Sg) ⊕ (Sg) ⊕ (Sg)) → Option (((Nat ⊕ (Unit)) × Sg) × Nat × Nat)} (v0 : Option Nat) (v2 : Option Nat) (v3 : Option Nat) (v4 : Option Nat) (hX : ∀ (e : Nat × Sg) {c0 n0 : Nat}, Kf (.inl e) = some (r, c0, n0) → zT e.2 e.1 = 9 ∧ r = (.inl e.1, e.2)) (hK0 : ∀ (q : Sg) {ce sl c0 n0 : Nat}, ce + c0 ≤ mc ∧ sl + n0 ≤ ms → Kf (.inr (.inl q)) = some (r, c0, n0) → JW kC (bC G A) A l D7_endorsement a (tQQ yX7_endorsement G A a (omV r.1) r.2 mc ms) mc ms q ce sl 119 [(0, pR v0)] []) (hK1 : ∀ (q : Sg) {ce sl c0 n0 : Nat}, ce + c0 ≤ mc ∧ sl + n0 ≤ ms → Kf (.inr (.inr (.inl q))) = some (r, c0, n0) → JW kC (bC G A) A l D7_endorsement a (tQQ yX7_endorsement G A a (omV r.1) r.2 mc ms) mc ms q ce sl 162 [(0, pR v0)] []) (hK2 : ∀ (q : Sg) {ce sl c0 n0 : Nat}, ce + c0 ≤ mc ∧ sl + n0 ≤ ms → Kf (.inr (.inr (.inr (.inl q)))) = some (r, c0, n0) → JW kC (bC G A) A l D7_endorsement a (tQQ yX7_endorsement G A a (omV r.1) r.2 mc ms) mc ms q ce sl 200 [(0, pR v0)] []) (hK3 : ∀ (q : Sg) {ce sl c0 n0 : Nat}, ce + c0 ≤ mc ∧ sl + n0 ≤ ms → Kf (.inr (.inr (.inr (.inr q)))) = some (r, c0, n0) → JW kC (bC G A) A l D7_endorsement a (tQQ yX7_endorsement G A a (omV r.1) r.2 mc ms) mc ms q ce sl 216 [(0, pR v0), (2, pR v2), (4, pR v4)] []) : ∀ (n : Nat) (u : Sg) {ce sl c0 n0 : Nat}, ce + c0 ≤ mc ∧ sl + n0 ≤ ms → (bdU (f7_endorsement_l26 G v0 v2 v3 v4 n u) Kf = some (r, c0, n0)) → JW kC (bC G A) A l D7_endorsement a (tQQ yX7_endorsement G A a (omV r.1) r.2 mc ms) mc ms u ce sl 26 [(0, pR v0), (2, pR v2), (3, pR v3), (4, pR v4)] [] := by
  intro n
  induction n with
  | zero => intro u ce sl c0 n0 hcs hf; exact onK hf
  | succ n ih =>
    intro u ce sl c0 n0 hcs hf
    unfold f7_endorsement_l26 at hf
    refine j_aload_n dX7_endorsement_26 0 rfl ?_
    obtain ⟨x1, hx1, hf⟩ := obK hf
    refine c_geti (ci := 7) (k := 1) hx1 zcl_7 (Nat.le_of_ble_eq_true rfl) zf_X7_46 fk_281 dX7_endorsement_27 ?_
    refine j_if_eq (w32 x1) rfl 216 dX7_endorsement_30 (by decide) (fun h17 => ?_) (fun h17 => ?_)
    · replace hf := itK h17 hf
      exact j_sub [0, 1, 3] _ rfl (hK3 u hcs (bdU_0 hf))
    · replace hf := ieK h17 hf
      refine j_aload_n dX7_endorsement_33 0 rfl ?_
      refine j_ldc2 (z := 126943972911973) q1318 (by decide) dX7_endorsement_34 ?_
      obtain ⟨b2, hb2, hf⟩ := obK hf
      obtain ⟨eb2, tb2⟩ := ztg_s hb2
      obtain ⟨x3, hx3, hf⟩ := obK hf
      refine a_Vr [pL 126943972911973] [] (t7_is (some b2) 126943972911973 u hx3) ⟨q787, q789, qs12, q146, q790⟩ dv7_is rfl ⟨(Nat.le_of_ble_eq_true rfl), (Nat.le_of_ble_eq_true rfl)⟩ (c_recv zcl_7 tb2) (by rw [← eb2]; rfl) (Nat.le_of_ble_eq_true rfl) dX7_endorsement_37 (hcs_ret (x := ()) (r := ()) hcs) ?_
      refine j_istore dX7_endorsement_40 [(5, pI x3), (0, pR v0), (2, pR v2), (3, pR v3), (4, pR v4)] (Nat.le_of_ble_eq_true rfl) rfl ?_
      refine j_aload_n dX7_endorsement_42 1 rfl ?_
      obtain ⟨b4, hb4, hf⟩ := obK hf
      obtain ⟨eb4, tb4⟩ := ztg_s hb4
      obtain ⟨x5, hx5, hf⟩ := obK hf
      refine a_Vr [] [] (t7_isClause (some b4) u hx5) ⟨q1046, q1048, qs28, q146, q1049⟩ dv7_isClause rfl ⟨(Nat.le_of_ble_eq_true rfl), (Nat.le_of_ble_eq_true rfl)⟩ (c_recv zcl_7 tb4) (by rw [← eb4]; rfl) (Nat.le_of_ble_eq_true rfl) dX7_endorsement_43 (hcs_ret (x := ()) (r := ()) hcs) ?_
      refine j_if_eq (w32 x5) rfl 64 dX7_endorsement_46 (by decide) (fun h16 => ?_) (fun h16 => ?_)
      · replace hf := itK h16 hf
        refine j_iload dX7_endorsement_64 0 rfl ?_
        refine j_if_ne (w32 x3) rfl 79 dX7_endorsement_66 (by decide) (fun h9 => ?_) (fun h9 => ?_)
        · replace hf := ieK h9 hf
          exact j_sub [1, 2, 3, 4, 0] _ rfl (t7_endorsement_b79 hfl (f7_endorsement_l26 G v0 v2 v3 v4 n) ih hX hK0 hK1 hK2 hK3 x3 u hcs hf)
        · replace hf := itK h9 hf
          refine j_aload_n dX7_endorsement_69 1 rfl ?_
          refine j_ldc2 (z := 29676314707714404) q1319 (by decide) dX7_endorsement_70 ?_
          obtain ⟨b6, hb6, hf⟩ := obK hf
          obtain ⟨eb6, tb6⟩ := ztg_s hb6
          obtain ⟨x7, hx7, hf⟩ := obK hf
          refine a_Vr [pL 29676314707714404] [] (t7_is (some b6) 29676314707714404 u hx7) ⟨q787, q789, qs12, q146, q790⟩ dv7_is rfl ⟨(Nat.le_of_ble_eq_true rfl), (Nat.le_of_ble_eq_true rfl)⟩ (c_recv zcl_7 tb6) (by rw [← eb6]; rfl) (Nat.le_of_ble_eq_true rfl) dX7_endorsement_73 (hcs_ret (x := ()) (r := ()) hcs) ?_
          refine j_if_eq (w32 x7) rfl 200 dX7_endorsement_76 (by decide) (fun h8 => ?_) (fun h8 => ?_)
          · replace hf := itK h8 hf
            exact j_sub [1] _ rfl (hK2 u hcs (bdU_0 hf))
          · replace hf := ieK h8 hf
            exact j_sub [1, 2, 3, 4, 0] _ rfl (t7_endorsement_b79 hfl (f7_endorsement_l26 G v0 v2 v3 v4 n) ih hX hK0 hK1 hK2 hK3 x3 u hcs hf)
      · replace hf := ieK h16 hf
        refine j_aload dX7_endorsement_49 4 rfl ?_
        refine j_aload_n dX7_endorsement_51 1 rfl ?_
        obtain ⟨b10, hb10, hf⟩ := obK hf
        obtain ⟨eb10, tb10⟩ := ztg_s hb10
        replace hf := bdU_a hf
        obtain ⟨q11, kq11, mq11, k_q11, m_q11, hq11, hf, hkq11, hmq11⟩ := bdU_s hf
        obtain ⟨hczq11, hcs⟩ := hcs_step hcs hkq11 hmq11
        have hMq11 := t7_clause (A := A) hfl (some b10) u hq11
        rcases zq11 : q11.1 with e12 | x13
        · rw [zq11] at hf hMq11
          replace hf := telLK hf
          obtain ⟨ht, hr⟩ := hX _ (bdU_0 hf)
          rw [hr]
          exact x_callV [] [pR v4] _ hMq11 ⟨q1053, q1055, qs29, q146, q1056⟩ dv7_clause rfl ⟨(Nat.le_of_ble_eq_true rfl), (Nat.le_of_ble_eq_true rfl)⟩ (c_recv zcl_7 tb10) (by rw [← eb10]; rfl) (Nat.le_of_ble_eq_true rfl) dX7_endorsement_52 hczq11 ht q1301
        · rw [zq11] at hf hMq11
          replace hf := telRK hf
          refine t_callV [] [pR v4] _ hMq11 ⟨q1053, q1055, qs29, q146, q1056⟩ dv7_clause rfl ⟨(Nat.le_of_ble_eq_true rfl), (Nat.le_of_ble_eq_true rfl)⟩ (c_recv zcl_7 tb10) (by rw [← eb10]; rfl) (Nat.le_of_ble_eq_true rfl) dX7_endorsement_52 hczq11 ?_
          obtain ⟨b14, hb14, hf⟩ := obK hf
          obtain ⟨eb14, tb14⟩ := ztg_s hb14
          replace hf := bdU_a hf
          obtain ⟨q15, kq15, mq15, k_q15, m_q15, hq15, hf, hkq15, hmq15⟩ := bdU_s hf
          obtain ⟨hczq15, hcs⟩ := hcs_step hcs hkq15 hmq15
          refine a_Fr (x := ix_2) [pR x13] [] (tJ2_add (some b14) x13 q11.2 hq15) ⟨q904, q325, q327, q131, q329⟩ iF_2 df_2 rfl ⟨(Nat.le_of_ble_eq_true rfl), (Nat.le_of_ble_eq_true rfl)⟩ zcl_5 rfl tb14 (by rw [← eb14]; rfl) (Nat.le_of_ble_eq_true rfl) dX7_endorsement_55 hczq15 ?_
          refine j_pop dX7_endorsement_60 rfl ?_
          refine j_goto 213 dX7_endorsement_61 (by decide) ?_
          refine j_goto 26 dX7_endorsement_213 (by decide) ?_
          exact j_sub [1, 2, 3, 4] _ rfl (ih q15.2 hcs hf)
theorem t7_endorsement_b119 {G : CG} {A : Nat → Prop} {l : Launch} {a : List PV} {mc ms ce sl : Nat} (hfl : l.stackTraces = false) {r : (Nat ⊕ (Unit)) × Sg} {c0 n0 : Nat} (v0 : Option Nat) (u : Sg) (hcs : ce + c0 ≤ mc ∧ sl + n0 ≤ ms) (hf : f7_endorsement_b119 G v0 u = some (r, c0, n0)) : JW kC (bC G A) A l D7_endorsement a (tQQ yX7_endorsement G A a (omV r.1) r.2 mc ms) mc ms u ce sl 119 [(0, pR v0)] [] := by
  unfold f7_endorsement_b119 at hf
  obtain ⟨q1, kq1, mq1, k_q1, m_q1, hq1, hf, hkq1, hmq1⟩ := bdU_s hf
  obtain ⟨hczq1, hcs⟩ := hcs_step hcs hkq1 hmq1
  refine c_new (ci := 8) hq1 zcl_8 zmk_8 q667 dX7_endorsement_119 hczq1 ?_
  refine j_dup dX7_endorsement_122 rfl ?_
  refine j_iconst dX7_endorsement_123 ?_
  refine j_aload_n dX7_endorsement_124 0 rfl ?_
  obtain ⟨x2, hx2, hf⟩ := ob hf
  refine c_geti (ci := 7) (k := 2) hx2 zcl_7 (Nat.le_of_ble_eq_true rfl) zf_X7_43 fk_282 dX7_endorsement_125 ?_
  obtain ⟨u3, hu3, hf⟩ := ob hf
  refine c_callI [pI 5, pI x2] [pR (some q1.1)] _ (t8_init hfl (some q1.1) 5 x2 q1.2 hu3) ⟨q706, q707, q150, q708, rfl, rfl⟩ dv8_init rfl ⟨(Nat.le_of_ble_eq_true rfl), (Nat.le_of_ble_eq_true rfl)⟩ rfl (Nat.le_of_ble_eq_true rfl) dX7_endorsement_128 (hcs_ret (x := ()) (r := ()) hcs) ?_
  obtain ⟨ht, hr⟩ := xth_s hf
  rw [hr]
  exact t_athrow ht q1301 (hcs_ret (x := ()) (r := ()) hcs) dX7_endorsement_131
theorem t7_endorsement_l219 {G : CG} {A : Nat → Prop} {l : Launch} {a : List PV} {mc ms : Nat} (hfl : l.stackTraces = false) {r : (Nat ⊕ (Unit)) × Sg} {Kf : Sg → Option (((Nat ⊕ (Unit)) × Sg) × Nat × Nat)} (v0 : Option Nat) (v2 : Option Nat) (v4 : Option Nat) (hK0 : ∀ (q : Sg) {ce sl c0 n0 : Nat}, ce + c0 ≤ mc ∧ sl + n0 ≤ ms → Kf q = some (r, c0, n0) → JW kC (bC G A) A l D7_endorsement a (tQQ yX7_endorsement G A a (omV r.1) r.2 mc ms) mc ms q ce sl 271 [(0, pR v0), (4, pR v4)] []) : ∀ (n : Nat) (v5 : Int) (u : Sg) {ce sl c0 n0 : Nat}, ce + c0 ≤ mc ∧ sl + n0 ≤ ms → (bdU (f7_endorsement_l219 G v0 v2 v4 n v5 u) Kf = some (r, c0, n0)) → JW kC (bC G A) A l D7_endorsement a (tQQ yX7_endorsement G A a (omV r.1) r.2 mc ms) mc ms u ce sl 219 [(0, pR v0), (2, pR v2), (4, pR v4), (5, pI v5)] [] := by
  intro n
  induction n with
  | zero => intro v5 u ce sl c0 n0 hcs hf; exact onK hf
  | succ n ih =>
    intro v5 u ce sl c0 n0 hcs hf
    unfold f7_endorsement_l219 at hf
    refine j_iload dX7_endorsement_219 3 rfl ?_
    refine j_aload_n dX7_endorsement_221 1 rfl ?_
    obtain ⟨b1, hb1, hf⟩ := obK hf
    obtain ⟨eb1, tb1⟩ := ztg_s hb1
    obtain ⟨x2, hx2, hf⟩ := obK hf
    refine a_Fr (x := ix_0) [] [pI v5] (tJ2_size (some b1) u hx2) ⟨q839, q559, q561, q131, q563⟩ iF_0 df_0 rfl ⟨(Nat.le_of_ble_eq_true rfl), (Nat.le_of_ble_eq_true rfl)⟩ zcl_5 rfl tb1 (by rw [← eb1]; rfl) (Nat.le_of_ble_eq_true rfl) dX7_endorsement_222 (hcs_ret (x := ()) (r := ()) hcs) ?_
    refine j_icmp_ge (w32 v5) (w32 x2) rfl rfl 271 dX7_endorsement_227 (by decide) (fun h13 => ?_) (fun h13 => ?_)
    · replace hf := itK h13 hf
      exact j_sub [0, 2] _ rfl (hK0 u hcs (bdU_0 hf))
    · replace hf := ieK h13 hf
      refine j_aload_n dX7_endorsement_230 1 rfl ?_
      refine j_iload dX7_endorsement_231 3 rfl ?_
      obtain ⟨b3, hb3, hf⟩ := obK hf
      obtain ⟨eb3, tb3⟩ := ztg_s hb3
      obtain ⟨x4, hx4, hf⟩ := obK hf
      refine a_Fr (x := ix_1) [pI v5] [] (tJ2_get (some b3) v5 u hx4) ⟨q959, q813, q815, q131, q817⟩ iF_1 df_1 rfl ⟨(Nat.le_of_ble_eq_true rfl), (Nat.le_of_ble_eq_true rfl)⟩ zcl_5 rfl tb3 (by rw [← eb3]; rfl) (Nat.le_of_ble_eq_true rfl) dX7_endorsement_233 (hcs_ret (x := ()) (r := ()) hcs) ?_
      refine j_ifnull 265 dX7_endorsement_238 (by decide) (fun h12 => ?_) (fun h12 => ?_)
      · replace hf := itK h12 hf
        refine j_iinc dX7_endorsement_265 3 rfl [(5, pI (v5 + 1)), (0, pR v0), (2, pR v2), (4, pR v4)] (Nat.le_of_ble_eq_true rfl) rfl ?_
        refine j_goto 219 dX7_endorsement_268 (by decide) ?_
        exact j_sub [1, 2, 3, 0] _ rfl (ih (v5 + 1) u hcs hf)
      · replace hf := ieK h12 hf
        refine j_aload_n dX7_endorsement_241 0 rfl ?_
        obtain ⟨x5, hx5, hf⟩ := obK hf
        refine c_geta (ci := 7) (k := 6) hx5 zcl_7 (Nat.le_of_ble_eq_true rfl) zf_X7_15 fk_286 dX7_endorsement_242 ?_
        obtain ⟨x6, hx6, hf⟩ := obK hf
        refine c_getaN (ci := 6) (k := 3) hx6 zcl_6 (Nat.le_of_ble_eq_true rfl) zf_X7_317 fk_243 dX7_endorsement_245 ?_
        refine j_aload_n dX7_endorsement_248 1 rfl ?_
        refine j_iload dX7_endorsement_249 3 rfl ?_
        obtain ⟨b7, hb7, hf⟩ := obK hf
        obtain ⟨eb7, tb7⟩ := ztg_s hb7
        obtain ⟨x8, hx8, hf⟩ := obK hf
        refine a_Fr (x := ix_1) [pI v5] [pR x6] (tJ2_get (some b7) v5 u hx8) ⟨q959, q813, q815, q131, q817⟩ iF_1 df_1 rfl ⟨(Nat.le_of_ble_eq_true rfl), (Nat.le_of_ble_eq_true rfl)⟩ zcl_5 rfl tb7 (by rw [← eb7]; rfl) (Nat.le_of_ble_eq_true rfl) dX7_endorsement_251 (hcs_ret (x := ()) (r := ()) hcs) ?_
        obtain ⟨y9, hy9, hf⟩ := obK hf
        refine c_cast hy9 zok_Clause q1057 dX7_endorsement_256 ?_
        obtain ⟨b10, hb10, hf⟩ := obK hf
        obtain ⟨eb10, tb10⟩ := ztg_s hb10
        replace hf := bdU_a hf
        obtain ⟨q11, kq11, mq11, k_q11, m_q11, hq11, hf, hkq11, hmq11⟩ := bdU_s hf
        obtain ⟨hczq11, hcs⟩ := hcs_step hcs hkq11 hmq11
        refine a_Fr (x := ix_2) [pR x8] [] (tJ2_add (some b10) x8 u hq11) ⟨q904, q325, q327, q131, q329⟩ iF_2 df_2 rfl ⟨(Nat.le_of_ble_eq_true rfl), (Nat.le_of_ble_eq_true rfl)⟩ zcl_5 rfl tb10 (by rw [← eb10]; rfl) (Nat.le_of_ble_eq_true rfl) dX7_endorsement_259 hczq11 ?_
        refine j_pop dX7_endorsement_264 rfl ?_
        refine j_iinc dX7_endorsement_265 3 rfl [(5, pI (v5 + 1)), (0, pR v0), (2, pR v2), (4, pR v4)] (Nat.le_of_ble_eq_true rfl) rfl ?_
        refine j_goto 219 dX7_endorsement_268 (by decide) ?_
        exact j_sub [1, 2, 3, 0] _ rfl (ih (v5 + 1) q11.2 hcs hf)
theorem t7_endorsement_b316 {G : CG} {A : Nat → Prop} {l : Launch} {a : List PV} {mc ms ce sl : Nat} (hfl : l.stackTraces = false) {r : (Nat ⊕ (Unit)) × Sg} {c0 n0 : Nat} (v0 : Option Nat) (u : Sg) (hcs : ce + c0 ≤ mc ∧ sl + n0 ≤ ms) (hf : f7_endorsement_b316 G v0 u = some (r, c0, n0)) : JW kC (bC G A) A l D7_endorsement a (tQQ yX7_endorsement G A a (omV r.1) r.2 mc ms) mc ms u ce sl 316 [(0, pR v0)] [] := by
  unfold f7_endorsement_b316 at hf
  obtain ⟨q1, kq1, mq1, k_q1, m_q1, hq1, hf, hkq1, hmq1⟩ := bdU_s hf
  obtain ⟨hczq1, hcs⟩ := hcs_step hcs hkq1 hmq1
  refine c_new (ci := 8) hq1 zcl_8 zmk_8 q667 dX7_endorsement_316 hczq1 ?_
  refine j_dup dX7_endorsement_319 rfl ?_
  refine j_bipush dX7_endorsement_320 (by decide) ?_
  refine j_aload_n dX7_endorsement_322 0 rfl ?_
  obtain ⟨x2, hx2, hf⟩ := ob hf
  refine c_geta (ci := 7) (k := 10) hx2 zcl_7 (Nat.le_of_ble_eq_true rfl) zf_X7_3 fk_290 dX7_endorsement_323 ?_
  obtain ⟨x3, hx3, hf⟩ := ob hf
  refine c_getiN (ci := 0) (k := 2) hx3 zcl_0 (Nat.le_of_ble_eq_true rfl) zf_X7_26 fk_2 dX7_endorsement_326 ?_
  obtain ⟨u4, hu4, hf⟩ := ob hf
  refine c_callI [pI 6, pI x3] [pR (some q1.1)] _ (t8_init hfl (some q1.1) 6 x3 q1.2 hu4) ⟨q706, q707, q150, q708, rfl, rfl⟩ dv8_init rfl ⟨(Nat.le_of_ble_eq_true rfl), (Nat.le_of_ble_eq_true rfl)⟩ rfl (Nat.le_of_ble_eq_true rfl) dX7_endorsement_329 (hcs_ret (x := ()) (r := ()) hcs) ?_
  obtain ⟨ht, hr⟩ := xth_s hf
  rw [hr]
  exact t_athrow ht q1301 (hcs_ret (x := ()) (r := ()) hcs) dX7_endorsement_332
theorem t7_endorsement {G : CG} {A : Nat → Prop} {l : Launch} (hfl : l.stackTraces = false) {r : (Nat ⊕ (Unit)) × Sg} {c0 n0 : Nat} (v0 : Option Nat) (v1 : Option Nat) (u : Sg) (hf : f7_endorsement G v0 v1 u = some (r, c0, n0)) : JMT G A l yX7_endorsement D7_endorsement [pR v0, pR v1] u (omV r.1) r.2 c0 n0 := by
  refine t_met (lv0 := [(0, pR v0), (1, pR v1)]) ⟨pl_X7, rfl, rfl, (Nat.le_of_ble_eq_true rfl), rfl⟩ ?_
  have hcs : 0 + c0 ≤ c0 ∧ 0 + n0 ≤ n0 := ⟨by omega, by omega⟩
  unfold f7_endorsement at hf
  obtain ⟨q1, kq1, mq1, k_q1, m_q1, hq1, hf, hkq1, hmq1⟩ := bdU_s hf
  obtain ⟨hczq1, hcs⟩ := hcs_step hcs hkq1 hmq1
  refine c_new (ci := 5) hq1 zcl_5 zmk_5 q1302 dX7_endorsement_0 hczq1 ?_
  refine j_dup dX7_endorsement_3 rfl ?_
  refine j_aload_n dX7_endorsement_4 1 rfl ?_
  obtain ⟨x2, hx2, hf⟩ := ob hf
  refine c_getaN (ci := 6) (k := 3) hx2 zcl_6 (Nat.le_of_ble_eq_true rfl) zf_X7_317 fk_243 dX7_endorsement_5 ?_
  obtain ⟨q3, kq3, mq3, k_q3, m_q3, hq3, hf, hkq3, hmq3⟩ := bdU_s hf
  obtain ⟨hczq3, hcs⟩ := hcs_step hcs hkq3 hmq3
  refine c_callI [pR x2] [pR (some q1.1)] _ (tJ2_init_2 (some q1.1) x2 q1.2 hq3) ⟨q1303, q1304, q131, q1305, rfl, rfl⟩ dvJ2_init_2 rfl ⟨(Nat.le_of_ble_eq_true rfl), (Nat.le_of_ble_eq_true rfl)⟩ rfl (Nat.le_of_ble_eq_true rfl) dX7_endorsement_8 hczq3 ?_
  refine j_astore_n dX7_endorsement_11 [(2, pR (some q1.1)), (0, pR v0), (1, pR v1)] (Nat.le_of_ble_eq_true rfl) rfl ?_
  refine j_bipush dX7_endorsement_12 (by decide) ?_
  obtain ⟨q4, kq4, mq4, k_q4, m_q4, hq4, hf, hkq4, hmq4⟩ := bdU_s hf
  obtain ⟨hczq4, hcs⟩ := hcs_step hcs hkq4 hmq4
  refine c_newa hq4 zat_3 dX7_endorsement_14 hczq4 ?_
  refine j_astore_n dX7_endorsement_16 [(3, pR (some q4.1)), (2, pR (some q1.1)), (0, pR v0), (1, pR v1)] (Nat.le_of_ble_eq_true rfl) rfl ?_
  obtain ⟨q5, kq5, mq5, k_q5, m_q5, hq5, hf, hkq5, hmq5⟩ := bdU_s hf
  obtain ⟨hczq5, hcs⟩ := hcs_step hcs hkq5 hmq5
  refine c_new (ci := 5) hq5 zcl_5 zmk_5 q1302 dX7_endorsement_17 hczq5 ?_
  refine j_dup dX7_endorsement_20 rfl ?_
  obtain ⟨u6, hu6, hf⟩ := ob hf
  refine c_callI [] [pR (some q5.1)] _ (tJ2_init (some q5.1) q5.2 hu6) ⟨q1317, q211, q131, q212, rfl, rfl⟩ dvJ2_init rfl ⟨(Nat.le_of_ble_eq_true rfl), (Nat.le_of_ble_eq_true rfl)⟩ rfl (Nat.le_of_ble_eq_true rfl) dX7_endorsement_21 (hcs_ret (x := ()) (r := ()) hcs) ?_
  refine j_astore dX7_endorsement_24 [(4, pR (some q5.1)), (3, pR (some q4.1)), (2, pR (some q1.1)), (0, pR v0), (1, pR v1)] (Nat.le_of_ble_eq_true rfl) rfl ?_
  refine j_sub [3, 2, 1, 0] _ rfl (t7_endorsement_l26 hfl v0 (some q1.1) (some q4.1) (some q5.1) ?_ ?_ ?_ ?_ ?_ NN u6 hcs hf)
  · intro e31 c0 n0 hf
    simp only [Sum.elim_inl] at hf
    exact xth_s hf
  · intro q7 ceq7 slq7 cq7 nq7 hcs hf
    simp only [Sum.elim_inl, Sum.elim_inr] at hf
    exact j_sub [0] _ rfl (t7_endorsement_b119 hfl v0 q7 hcs hf)
  · intro q8 ceq8 slq8 cq8 nq8 hcs hf
    simp only [Sum.elim_inl, Sum.elim_inr] at hf
    obtain ⟨q9, kq9, mq9, k_q9, m_q9, hq9, hf, hkq9, hmq9⟩ := bdU_s hf
    obtain ⟨hczq9, hcs⟩ := hcs_step hcs hkq9 hmq9
    refine c_new (ci := 8) hq9 zcl_8 zmk_8 q667 dX7_endorsement_162 hczq9 ?_
    refine j_dup dX7_endorsement_165 rfl ?_
    refine j_iconst dX7_endorsement_166 ?_
    refine j_aload_n dX7_endorsement_167 0 rfl ?_
    obtain ⟨x10, hx10, hf⟩ := ob hf
    refine c_geti (ci := 7) (k := 2) hx10 zcl_7 (Nat.le_of_ble_eq_true rfl) zf_X7_43 fk_282 dX7_endorsement_168 ?_
    obtain ⟨u11, hu11, hf⟩ := ob hf
    refine c_callI [pI 2, pI x10] [pR (some q9.1)] _ (t8_init hfl (some q9.1) 2 x10 q9.2 hu11) ⟨q706, q707, q150, q708, rfl, rfl⟩ dv8_init rfl ⟨(Nat.le_of_ble_eq_true rfl), (Nat.le_of_ble_eq_true rfl)⟩ rfl (Nat.le_of_ble_eq_true rfl) dX7_endorsement_171 (hcs_ret (x := ()) (r := ()) hcs) ?_
    obtain ⟨ht, hr⟩ := xth_s hf
    rw [hr]
    exact t_athrow ht q1301 (hcs_ret (x := ()) (r := ()) hcs) dX7_endorsement_174
  · intro q12 ceq12 slq12 cq12 nq12 hcs hf
    simp only [Sum.elim_inl, Sum.elim_inr] at hf
    obtain ⟨q13, kq13, mq13, k_q13, m_q13, hq13, hf, hkq13, hmq13⟩ := bdU_s hf
    obtain ⟨hczq13, hcs⟩ := hcs_step hcs hkq13 hmq13
    refine c_new (ci := 8) hq13 zcl_8 zmk_8 q667 dX7_endorsement_200 hczq13 ?_
    refine j_dup dX7_endorsement_203 rfl ?_
    refine j_iconst dX7_endorsement_204 ?_
    refine j_aload_n dX7_endorsement_205 0 rfl ?_
    obtain ⟨x14, hx14, hf⟩ := ob hf
    refine c_geti (ci := 7) (k := 2) hx14 zcl_7 (Nat.le_of_ble_eq_true rfl) zf_X7_43 fk_282 dX7_endorsement_206 ?_
    obtain ⟨u15, hu15, hf⟩ := ob hf
    refine c_callI [pI 2, pI x14] [pR (some q13.1)] _ (t8_init hfl (some q13.1) 2 x14 q13.2 hu15) ⟨q706, q707, q150, q708, rfl, rfl⟩ dv8_init rfl ⟨(Nat.le_of_ble_eq_true rfl), (Nat.le_of_ble_eq_true rfl)⟩ rfl (Nat.le_of_ble_eq_true rfl) dX7_endorsement_209 (hcs_ret (x := ()) (r := ()) hcs) ?_
    obtain ⟨ht, hr⟩ := xth_s hf
    rw [hr]
    exact t_athrow ht q1301 (hcs_ret (x := ()) (r := ()) hcs) dX7_endorsement_212
  · intro q16 ceq16 slq16 cq16 nq16 hcs hf
    simp only [Sum.elim_inl, Sum.elim_inr] at hf
    refine j_iconst dX7_endorsement_216 ?_
    refine j_istore dX7_endorsement_217 [(5, pI 0), (0, pR v0), (2, pR (some q1.1)), (4, pR (some q5.1))] (Nat.le_of_ble_eq_true rfl) rfl ?_
    refine j_sub [1, 2, 3, 0] _ rfl (t7_endorsement_l219 hfl v0 (some q1.1) (some q5.1) ?_ NN 0 q16 hcs hf)
    · intro q17 ceq17 slq17 cq17 nq17 hcs hf
      refine j_aload_n dX7_endorsement_271 0 rfl ?_
      obtain ⟨x18, hx18, hf⟩ := ob hf
      refine c_geta (ci := 7) (k := 6) hx18 zcl_7 (Nat.le_of_ble_eq_true rfl) zf_X7_15 fk_286 dX7_endorsement_272 ?_
      obtain ⟨x19, hx19, hf⟩ := ob hf
      refine c_getaN (ci := 6) (k := 3) hx19 zcl_6 (Nat.le_of_ble_eq_true rfl) zf_X7_317 fk_243 dX7_endorsement_275 ?_
      refine j_aload dX7_endorsement_278 1 rfl ?_
      obtain ⟨b20, hb20, hf⟩ := ob hf
      obtain ⟨eb20, tb20⟩ := ztg_s hb20
      obtain ⟨q21, kq21, mq21, k_q21, m_q21, hq21, hf, hkq21, hmq21⟩ := bdU_s hf
      obtain ⟨hczq21, hcs⟩ := hcs_step hcs hkq21 hmq21
      refine a_Fr (x := ix_3) [pR (some q5.1)] [] (tJ2_addAll (some b20) (some q5.1) q17 hq21) ⟨q1330, q1282, q1284, q131, q1286⟩ iF_3 df_3 rfl ⟨(Nat.le_of_ble_eq_true rfl), (Nat.le_of_ble_eq_true rfl)⟩ zcl_5 rfl tb20 (by rw [← eb20]; rfl) (Nat.le_of_ble_eq_true rfl) dX7_endorsement_280 hczq21 ?_
      refine j_pop dX7_endorsement_285 rfl ?_
      refine j_aload_n dX7_endorsement_286 0 rfl ?_
      obtain ⟨x22, hx22, hf⟩ := ob hf
      refine c_geta (ci := 7) (k := 6) hx22 zcl_7 (Nat.le_of_ble_eq_true rfl) zf_X7_15 fk_286 dX7_endorsement_287 ?_
      obtain ⟨x23, hx23, hf⟩ := ob hf
      refine c_getaN (ci := 6) (k := 3) hx23 zcl_6 (Nat.le_of_ble_eq_true rfl) zf_X7_317 fk_243 dX7_endorsement_290 ?_
      obtain ⟨b24, hb24, hf⟩ := ob hf
      obtain ⟨eb24, tb24⟩ := ztg_s hb24
      obtain ⟨x25, hx25, hf⟩ := ob hf
      refine a_Fr (x := ix_0) [] [] (tJ2_size (some b24) q21.2 hx25) ⟨q839, q559, q561, q131, q563⟩ iF_0 df_0 rfl ⟨(Nat.le_of_ble_eq_true rfl), (Nat.le_of_ble_eq_true rfl)⟩ zcl_5 rfl tb24 (by rw [← eb24]; rfl) (Nat.le_of_ble_eq_true rfl) dX7_endorsement_293 (hcs_ret (x := ()) (r := ()) hcs) ?_
      refine j_bipush dX7_endorsement_298 (by decide) ?_
      refine j_icmp_gt (w32 x25) 24 rfl rfl 316 dX7_endorsement_300 (by decide) (fun h30 => ?_) (fun h30 => ?_)
      · replace hf := it h30 hf
        exact j_sub [0] _ rfl (t7_endorsement_b316 hfl v0 q21.2 hcs hf)
      · replace hf := ie h30 hf
        refine j_aload_n dX7_endorsement_303 0 rfl ?_
        obtain ⟨x26, hx26, hf⟩ := ob hf
        refine c_geta (ci := 7) (k := 6) hx26 zcl_7 (Nat.le_of_ble_eq_true rfl) zf_X7_15 fk_286 dX7_endorsement_304 ?_
        obtain ⟨b27, hb27, hf⟩ := ob hf
        obtain ⟨eb27, tb27⟩ := ztg_s hb27
        obtain ⟨q28, hq28, hf⟩ := ob hf
        refine a_Vr [] [] (t6_countNodes (some b27) q21.2 hq28) ⟨q1331, q1198, q1199, q145, q1200⟩ dv6_countNodes rfl ⟨(Nat.le_of_ble_eq_true rfl), (Nat.le_of_ble_eq_true rfl)⟩ (c_recv zcl_6 tb27) (by rw [← eb27]; rfl) (Nat.le_of_ble_eq_true rfl) dX7_endorsement_307 (hcs_ret (x := ()) (r := ()) hcs) ?_
        refine j_sipush dX7_endorsement_310 (by decide) ?_
        refine j_icmp_le (w32 q28.1) 300 rfl rfl 333 dX7_endorsement_313 (by decide) (fun h29 => ?_) (fun h29 => ?_)
        · replace hf := it h29 hf
          replace hf := retU hf
          subst hf
          exact t_ofret (j_return (bC_mv G A) (hcs_ret (x := ()) (r := ()) hcs) rfl dX7_endorsement_333)
        · replace hf := ie h29 hf
          exact j_sub [0] _ rfl (t7_endorsement_b316 hfl v0 q28.2 hcs hf)
theorem t6_takeOver_l74 {G : CG} {A : Nat → Prop} {l : Launch} {a : List PV} {mc ms ce sl : Nat} {r : Sg} {c0 n0 : Nat} {Kf : Sg → Option ((Sg) × Nat × Nat)} (v0 : Option Nat) (v1 : Option Nat) (hK0 : ∀ q : Sg, Kf q = some (r, c0, n0) → JW kC (bC G A) A l D6_takeOver a (jQ (bC G A) A a none r mc ms) mc ms q ce sl 97 [(0, pR v0), (1, pR v1)] []) : ∀ (n : Nat) (v2 : Int) (u : Sg), ((f6_takeOver_l74 G v0 v1 n v2 u).bind Kf = some (r, c0, n0)) → JW kC (bC G A) A l D6_takeOver a (jQ (bC G A) A a none r mc ms) mc ms u ce sl 74 [(0, pR v0), (1, pR v1), (2, pI v2)] [] := by
  intro n
  induction n with
  | zero => intro v2 u hf; exact onb hf
  | succ n ih =>
    intro v2 u hf
    unfold f6_takeOver_l74 at hf
    refine j_iload_n dX6_takeOver_74 2 rfl ?_
    refine j_iconst dX6_takeOver_75 ?_
    refine j_icmp_ge (w32 v2) 3 rfl rfl 97 dX6_takeOver_76 (by decide) (fun h5 => ?_) (fun h5 => ?_)
    · replace hf := itb h5 hf
      exact j_sub [0, 1] _ rfl (hK0 u hf)
    · replace hf := ieb h5 hf
      refine j_aload_n dX6_takeOver_79 0 rfl ?_
      obtain ⟨x1, hx1, hf⟩ := obb hf
      refine c_geta (ci := 6) (k := 7) hx1 zcl_6 (Nat.le_of_ble_eq_true rfl) zf_X6_37 fk_247 dX6_takeOver_80 ?_
      refine j_iload_n dX6_takeOver_83 2 rfl ?_
      refine j_aload_n dX6_takeOver_84 1 rfl ?_
      obtain ⟨x2, hx2, hf⟩ := obb hf
      refine c_geta (ci := 6) (k := 7) hx2 zcl_6 (Nat.le_of_ble_eq_true rfl) zf_X6_37 fk_247 dX6_takeOver_85 ?_
      refine j_iload_n dX6_takeOver_88 2 rfl ?_
      obtain ⟨x3, hx3, hf⟩ := obb hf
      refine c_iald hx3 dX6_takeOver_89 ?_
      obtain ⟨u4, hu4, hf⟩ := obb hf
      refine c_iast hu4 dX6_takeOver_90 ?_
      refine j_iinc dX6_takeOver_91 2 rfl [(2, pI (v2 + 1)), (0, pR v0), (1, pR v1)] (Nat.le_of_ble_eq_true rfl) rfl ?_
      refine j_goto 74 dX6_takeOver_94 (by decide) ?_
      exact j_sub [1, 2, 0] _ rfl (ih (v2 + 1) u4 hf)
theorem t6_takeOver {G : CG} {A : Nat → Prop} {l : Launch} {r : Sg} {c0 n0 : Nat} (v0 : Option Nat) (v1 : Option Nat) (u : Sg) (hf : f6_takeOver G v0 v1 u = some (r, c0, n0)) : JM kC (bC G A) A l yX6_takeOver D6_takeOver [pR v0, pR v1] u none r c0 n0 := by
  refine j_met (lv0 := [(0, pR v0), (1, pR v1)]) ⟨pl_X6, rfl, rfl, (Nat.le_of_ble_eq_true rfl), rfl⟩ ?_
  have hcs : 0 + c0 ≤ c0 ∧ 0 + n0 ≤ n0 := ⟨by omega, by omega⟩
  unfold f6_takeOver at hf
  refine j_aload_n dX6_takeOver_0 0 rfl ?_
  obtain ⟨x1, hx1, hf⟩ := ob hf
  refine c_geta (ci := 6) (k := 0) hx1 zcl_6 (Nat.le_of_ble_eq_true rfl) zf_X6_12 fk_240 dX6_takeOver_1 ?_
  refine j_aload_n dX6_takeOver_4 1 rfl ?_
  obtain ⟨x2, hx2, hf⟩ := ob hf
  refine c_geta (ci := 6) (k := 0) hx2 zcl_6 (Nat.le_of_ble_eq_true rfl) zf_X6_12 fk_240 dX6_takeOver_5 ?_
  obtain ⟨b3, hb3, hf⟩ := ob hf
  obtain ⟨eb3, tb3⟩ := ztg_s hb3
  obtain ⟨q4, kq4, mq4, k_q4, m_q4, hq4, hf, hkq4, hmq4⟩ := bdU_s hf
  obtain ⟨hczq4, hcs⟩ := hcs_step hcs hkq4 hmq4
  refine a_Fr (x := ix_3) [pR x2] [] (tJ2_addAll (some b3) x2 u hq4) ⟨q1279, q1282, q1284, q131, q1286⟩ iF_3 df_3 rfl ⟨(Nat.le_of_ble_eq_true rfl), (Nat.le_of_ble_eq_true rfl)⟩ zcl_5 rfl tb3 (by rw [← eb3]; rfl) (Nat.le_of_ble_eq_true rfl) dX6_takeOver_8 hczq4 ?_
  refine j_pop dX6_takeOver_13 rfl ?_
  refine j_aload_n dX6_takeOver_14 0 rfl ?_
  obtain ⟨x5, hx5, hf⟩ := ob hf
  refine c_geta (ci := 6) (k := 1) hx5 zcl_6 (Nat.le_of_ble_eq_true rfl) zf_X6_18 fk_241 dX6_takeOver_15 ?_
  refine j_aload_n dX6_takeOver_18 1 rfl ?_
  obtain ⟨x6, hx6, hf⟩ := ob hf
  refine c_geta (ci := 6) (k := 1) hx6 zcl_6 (Nat.le_of_ble_eq_true rfl) zf_X6_18 fk_241 dX6_takeOver_19 ?_
  obtain ⟨b7, hb7, hf⟩ := ob hf
  obtain ⟨eb7, tb7⟩ := ztg_s hb7
  obtain ⟨q8, kq8, mq8, k_q8, m_q8, hq8, hf, hkq8, hmq8⟩ := bdU_s hf
  obtain ⟨hczq8, hcs⟩ := hcs_step hcs hkq8 hmq8
  refine a_Fr (x := ix_3) [pR x6] [] (tJ2_addAll (some b7) x6 q4.2 hq8) ⟨q1279, q1282, q1284, q131, q1286⟩ iF_3 df_3 rfl ⟨(Nat.le_of_ble_eq_true rfl), (Nat.le_of_ble_eq_true rfl)⟩ zcl_5 rfl tb7 (by rw [← eb7]; rfl) (Nat.le_of_ble_eq_true rfl) dX6_takeOver_22 hczq8 ?_
  refine j_pop dX6_takeOver_27 rfl ?_
  refine j_aload_n dX6_takeOver_28 0 rfl ?_
  obtain ⟨x9, hx9, hf⟩ := ob hf
  refine c_geta (ci := 6) (k := 2) hx9 zcl_6 (Nat.le_of_ble_eq_true rfl) zf_X6_21 fk_242 dX6_takeOver_29 ?_
  refine j_aload_n dX6_takeOver_32 1 rfl ?_
  obtain ⟨x10, hx10, hf⟩ := ob hf
  refine c_geta (ci := 6) (k := 2) hx10 zcl_6 (Nat.le_of_ble_eq_true rfl) zf_X6_21 fk_242 dX6_takeOver_33 ?_
  obtain ⟨b11, hb11, hf⟩ := ob hf
  obtain ⟨eb11, tb11⟩ := ztg_s hb11
  obtain ⟨q12, kq12, mq12, k_q12, m_q12, hq12, hf, hkq12, hmq12⟩ := bdU_s hf
  obtain ⟨hczq12, hcs⟩ := hcs_step hcs hkq12 hmq12
  refine a_Fr (x := ix_3) [pR x10] [] (tJ2_addAll (some b11) x10 q8.2 hq12) ⟨q1279, q1282, q1284, q131, q1286⟩ iF_3 df_3 rfl ⟨(Nat.le_of_ble_eq_true rfl), (Nat.le_of_ble_eq_true rfl)⟩ zcl_5 rfl tb11 (by rw [← eb11]; rfl) (Nat.le_of_ble_eq_true rfl) dX6_takeOver_36 hczq12 ?_
  refine j_pop dX6_takeOver_41 rfl ?_
  refine j_aload_n dX6_takeOver_42 0 rfl ?_
  obtain ⟨x13, hx13, hf⟩ := ob hf
  refine c_geta (ci := 6) (k := 4) hx13 zcl_6 (Nat.le_of_ble_eq_true rfl) zf_X6_27 fk_244 dX6_takeOver_43 ?_
  refine j_aload_n dX6_takeOver_46 1 rfl ?_
  obtain ⟨x14, hx14, hf⟩ := ob hf
  refine c_geta (ci := 6) (k := 4) hx14 zcl_6 (Nat.le_of_ble_eq_true rfl) zf_X6_27 fk_244 dX6_takeOver_47 ?_
  obtain ⟨b15, hb15, hf⟩ := ob hf
  obtain ⟨eb15, tb15⟩ := ztg_s hb15
  obtain ⟨q16, kq16, mq16, k_q16, m_q16, hq16, hf, hkq16, hmq16⟩ := bdU_s hf
  obtain ⟨hczq16, hcs⟩ := hcs_step hcs hkq16 hmq16
  refine a_Fr (x := ix_3) [pR x14] [] (tJ2_addAll (some b15) x14 q12.2 hq16) ⟨q1279, q1282, q1284, q131, q1286⟩ iF_3 df_3 rfl ⟨(Nat.le_of_ble_eq_true rfl), (Nat.le_of_ble_eq_true rfl)⟩ zcl_5 rfl tb15 (by rw [← eb15]; rfl) (Nat.le_of_ble_eq_true rfl) dX6_takeOver_50 hczq16 ?_
  refine j_pop dX6_takeOver_55 rfl ?_
  refine j_aload_n dX6_takeOver_56 0 rfl ?_
  refine j_aload_n dX6_takeOver_57 1 rfl ?_
  obtain ⟨x17, hx17, hf⟩ := ob hf
  refine c_geti (ci := 6) (k := 5) hx17 zcl_6 (Nat.le_of_ble_eq_true rfl) zf_X6_30 fk_245 dX6_takeOver_58 ?_
  obtain ⟨u18, hu18, hf⟩ := ob hf
  refine c_puti (ci := 6) (k := 5) hu18 zcl_6 (Nat.le_of_ble_eq_true rfl) zf_X6_30 fk_245 rfl fits_I dX6_takeOver_61 ?_
  refine j_aload_n dX6_takeOver_64 0 rfl ?_
  refine j_aload_n dX6_takeOver_65 1 rfl ?_
  obtain ⟨x19, hx19, hf⟩ := ob hf
  refine c_geti (ci := 6) (k := 6) hx19 zcl_6 (Nat.le_of_ble_eq_true rfl) zf_X6_34 fk_246 dX6_takeOver_66 ?_
  obtain ⟨u20, hu20, hf⟩ := ob hf
  refine c_puti (ci := 6) (k := 6) hu20 zcl_6 (Nat.le_of_ble_eq_true rfl) zf_X6_34 fk_246 rfl fits_I dX6_takeOver_69 ?_
  refine j_iconst dX6_takeOver_72 ?_
  refine j_istore_n dX6_takeOver_73 [(2, pI 0), (0, pR v0), (1, pR v1)] (Nat.le_of_ble_eq_true rfl) rfl ?_
  refine j_sub [1, 2, 0] _ rfl (t6_takeOver_l74 v0 v1 ?_ NN 0 u20 hf)
  · intro q21 hf
    refine j_aload_n dX6_takeOver_97 0 rfl ?_
    refine j_aload_n dX6_takeOver_98 1 rfl ?_
    obtain ⟨x22, hx22, hf⟩ := ob hf
    refine c_geti (ci := 6) (k := 8) hx22 zcl_6 (Nat.le_of_ble_eq_true rfl) zf_X6_70 fk_248 dX6_takeOver_99 ?_
    obtain ⟨u23, hu23, hf⟩ := ob hf
    refine c_puti (ci := 6) (k := 8) hu23 zcl_6 (Nat.le_of_ble_eq_true rfl) zf_X6_70 fk_248 rfl fits_I dX6_takeOver_102 ?_
    replace hf := retU hf
    subst hf
    exact j_return (bC_mv G A) (hcs_ret (x := ()) (r := ()) hcs) rfl dX6_takeOver_105
theorem t0_endorse_b85 {G : CG} {A : Nat → Prop} {l : Launch} {a : List PV} {mc ms ce sl : Nat} (hfl : l.stackTraces = false) {r : Int × Sg} {c0 n0 : Nat} (v0 : Option Nat) (v2 : Int) (u : Sg) (hcs : ce + c0 ≤ mc ∧ sl + n0 ≤ ms) (hf : f0_endorse_b85 G v0 v2 u = some (r, c0, n0)) : JW kC (bC G A) A l D0_endorse a (tQQ yX0_endorse G A a (.inr (some (pI r.1))) r.2 mc ms) mc ms u ce sl 85 [(0, pR v0), (2, pI v2)] [] := by
  unfold f0_endorse_b85 at hf
  refine j_aload_n dX0_endorse_85 0 rfl ?_
  refine j_iconst dX0_endorse_86 ?_
  obtain ⟨u1, hu1, hf⟩ := ob hf
  refine c_puti (ci := 0) (k := 2) hu1 zcl_0 (Nat.le_of_ble_eq_true rfl) zf_X0_164 fk_2 rfl fits_I dX0_endorse_87 ?_
  refine j_iload_n dX0_endorse_90 1 rfl ?_
  replace hf := retU hf
  subst hf
  exact t_ofret (j_ireturn (bC_mv G A) (hcs_ret (x := ()) (r := ()) hcs) rfl dX0_endorse_91)
theorem t0_endorse_b78 {G : CG} {A : Nat → Prop} {l : Launch} {a : List PV} {mc ms ce sl : Nat} (hfl : l.stackTraces = false) {r : Int × Sg} {c0 n0 : Nat} (v0 : Option Nat) (s0 : Option Nat) (u : Sg) (hcs : ce + c0 ≤ mc ∧ sl + n0 ≤ ms) (hf : f0_endorse_b78 G v0 s0 u = some (r, c0, n0)) : JW kC (bC G A) A l D0_endorse a (tQQ yX0_endorse G A a (.inr (some (pI r.1))) r.2 mc ms) mc ms u ce sl 78 [(0, pR v0)] [pR s0] := by
  unfold f0_endorse_b78 at hf
  refine j_astore_n dX0_endorse_78 [(3, pR s0), (0, pR v0)] (Nat.le_of_ble_eq_true rfl) rfl ?_
  refine j_aload_n dX0_endorse_79 1 rfl ?_
  refine j_aload_n dX0_endorse_80 0 rfl ?_
  obtain ⟨b1, hb1, hf⟩ := ob hf
  obtain ⟨eb1, tb1⟩ := ztg_s hb1
  obtain ⟨q2, hq2, hf⟩ := ob hf
  refine a_Vr [pR s0] [] (t0_failed (some b1) s0 u hq2) ⟨q1256, q1258, qs36, q128, q1259⟩ dv0_failed rfl ⟨(Nat.le_of_ble_eq_true rfl), (Nat.le_of_ble_eq_true rfl)⟩ (c_recv zcl_0 tb1) (by rw [← eb1]; rfl) (Nat.le_of_ble_eq_true rfl) dX0_endorse_81 (hcs_ret (x := ()) (r := ()) hcs) ?_
  refine j_istore_n dX0_endorse_84 [(2, pI q2.1), (3, pR s0), (0, pR v0)] (Nat.le_of_ble_eq_true rfl) rfl ?_
  exact j_sub [2, 0] _ rfl (t0_endorse_b85 hfl v0 q2.1 q2.2 hcs hf)
theorem t0_endorse {G : CG} {A : Nat → Prop} {l : Launch} (hfl : l.stackTraces = false) {r : Int × Sg} {c0 n0 : Nat} (v0 : Option Nat) (v1 : Int) (u : Sg) (hf : f0_endorse G v0 v1 u = some (r, c0, n0)) : JMH G A l yX0_endorse D0_endorse [(32, 75, 78, 168)] [pR v0, pI v1] u (some (pI r.1)) r.2 c0 n0 := by
  refine h_met (lv0 := [(0, pR v0), (1, pI v1)]) ⟨pl_X0, rfl, rfl, (Nat.le_of_ble_eq_true rfl), rfl⟩ ?_
  have hcs : 0 + c0 ≤ c0 ∧ 0 + n0 ≤ n0 := ⟨by omega, by omega⟩
  unfold f0_endorse at hf
  refine j_aload_n dX0_endorse_0 0 rfl ?_
  refine j_iload_n dX0_endorse_1 1 rfl ?_
  obtain ⟨b1, hb1, hf⟩ := ob hf
  obtain ⟨eb1, tb1⟩ := ztg_s hb1
  obtain ⟨x2, hx2, hf⟩ := ob hf
  refine a_Vr [pI v1] [] (t0_isWording (some b1) v1 u hx2) ⟨q1264, q1266, qs37, q128, q1267⟩ dv0_isWording rfl ⟨(Nat.le_of_ble_eq_true rfl), (Nat.le_of_ble_eq_true rfl)⟩ (c_recv zcl_0 tb1) (by rw [← eb1]; rfl) (Nat.le_of_ble_eq_true rfl) dX0_endorse_2 (hcs_ret (x := ()) (r := ()) hcs) ?_
  refine j_if_ne (w32 x2) rfl 10 dX0_endorse_5 (by decide) (fun h31 => ?_) (fun h31 => ?_)
  · replace hf := ie h31 hf
    refine j_aload_n dX0_endorse_10 0 rfl ?_
    obtain ⟨x3, hx3, hf⟩ := ob hf
    refine c_geta (ci := 0) (k := 5) hx3 zcl_0 (Nat.le_of_ble_eq_true rfl) zf_X0_82 fk_5 dX0_endorse_11 ?_
    obtain ⟨b4, hb4, hf⟩ := ob hf
    obtain ⟨eb4, tb4⟩ := ztg_s hb4
    obtain ⟨x5, hx5, hf⟩ := ob hf
    refine a_Fr (x := ix_0) [] [] (tJ2_size (some b4) u hx5) ⟨q556, q559, q561, q131, q563⟩ iF_0 df_0 rfl ⟨(Nat.le_of_ble_eq_true rfl), (Nat.le_of_ble_eq_true rfl)⟩ zcl_5 rfl tb4 (by rw [← eb4]; rfl) (Nat.le_of_ble_eq_true rfl) dX0_endorse_14 (hcs_ret (x := ()) (r := ()) hcs) ?_
    refine j_bipush dX0_endorse_19 (by decide) ?_
    refine j_icmp_ne (w32 x5) 12 rfl rfl 27 dX0_endorse_21 (by decide) (fun h30 => ?_) (fun h30 => ?_)
    · replace hf := ie h30 hf
      refine j_aload_n dX0_endorse_27 0 rfl ?_
      refine j_iconst dX0_endorse_28 ?_
      obtain ⟨u6, hu6, hf⟩ := ob hf
      refine c_puti (ci := 0) (k := 3) hu6 zcl_0 (Nat.le_of_ble_eq_true rfl) zf_X0_75 fk_3 rfl fits_I dX0_endorse_29 ?_
      obtain ⟨q7, kq7, mq7, k_q7, m_q7, hq7, hf, hkq7, hmq7⟩ := bdU_s hf
      obtain ⟨hczq7, hcs⟩ := hcs_step hcs hkq7 hmq7
      refine c_new (ci := 6) hq7 zcl_6 zmk_6 q564 dX0_endorse_32 hczq7 ?_
      refine j_dup dX0_endorse_35 rfl ?_
      obtain ⟨q8, kq8, mq8, k_q8, m_q8, hq8, hf, hkq8, hmq8⟩ := bdU_s hf
      obtain ⟨hczq8, hcs⟩ := hcs_step hcs hkq8 hmq8
      refine c_callIN [] [pR (some q7.1)] _ (t6_init (some q7.1) q7.2 hq8) ⟨q566, q567, q145, q568, rfl, rfl⟩ dv6_init rfl ⟨(Nat.le_of_ble_eq_true rfl), (Nat.le_of_ble_eq_true rfl)⟩ rfl (Nat.le_of_ble_eq_true rfl) dX0_endorse_36 hczq8 ?_
      refine j_astore_n dX0_endorse_39 [(3, pR (some q7.1)), (0, pR v0), (1, pI v1)] (Nat.le_of_ble_eq_true rfl) rfl ?_
      refine j_aload_n dX0_endorse_40 0 rfl ?_
      refine j_aload_n dX0_endorse_41 1 rfl ?_
      refine j_iload_n dX0_endorse_42 2 rfl ?_
      obtain ⟨b9, hb9, hf⟩ := ob hf
      obtain ⟨eb9, tb9⟩ := ztg_s hb9
      obtain ⟨x10, hx10, hf⟩ := ob hf
      refine a_Vr [pI v1] [pR (some q7.1)] (t0_the (some b9) v1 q8 hx10) ⟨q1268, q1270, qs38, q128, q1271⟩ dv0_the rfl ⟨(Nat.le_of_ble_eq_true rfl), (Nat.le_of_ble_eq_true rfl)⟩ (c_recv zcl_0 tb9) (by rw [← eb9]; rfl) (Nat.le_of_ble_eq_true rfl) dX0_endorse_43 (hcs_ret (x := ()) (r := ()) hcs) ?_
      obtain ⟨b11, hb11, hf⟩ := ob hf
      obtain ⟨eb11, tb11⟩ := ztg_s hb11
      obtain ⟨q12, kq12, mq12, k_q12, m_q12, hq12, hf, hkq12, hmq12⟩ := bdU_s hf
      obtain ⟨hczq12, hcs⟩ := hcs_step hcs hkq12 hmq12
      refine a_Vv [pR x10] [] (t6_takeOver (some b11) x10 q8 hq12) ⟨q1274, q1275, q1276, q145, q1277⟩ dv6_takeOver rfl ⟨(Nat.le_of_ble_eq_true rfl), (Nat.le_of_ble_eq_true rfl)⟩ (c_recv zcl_6 tb11) (by rw [← eb11]; rfl) (Nat.le_of_ble_eq_true rfl) dX0_endorse_46 hczq12 ?_
      obtain ⟨q13, kq13, mq13, k_q13, m_q13, hq13, hf, hkq13, hmq13⟩ := bdU_s hf
      obtain ⟨hczq13, hcs⟩ := hcs_step hcs hkq13 hmq13
      refine c_new (ci := 7) hq13 zcl_7 zmk_7 q641 dX0_endorse_49 hczq13 ?_
      refine j_dup dX0_endorse_52 rfl ?_
      refine j_aload_n dX0_endorse_53 1 rfl ?_
      refine j_aload_n dX0_endorse_54 0 rfl ?_
      refine j_sipush dX0_endorse_55 (by decide) ?_
      obtain ⟨q14, kq14, mq14, k_q14, m_q14, hq14, hf, hkq14, hmq14⟩ := bdU_s hf
      obtain ⟨hczq14, hcs⟩ := hcs_step hcs hkq14 hmq14
      have hMq14 := t7_init (A := A) hfl (some q13.1) v0 (some q7.1) 4000 q13.2 hq14
      rcases zq14 : q14.1 with e15 | x16
      · rw [zq14] at hf hMq14
        replace hf := telL hf
        obtain ⟨b29, hb29, hf⟩ := ob hf
        obtain ⟨eb29, tb29⟩ := ztg_s hb29
        have te15 : zT q14.2 e15 = 9 := by cases eb29; exact tb29
        refine hc_callI [pR v0, pR (some q7.1), pI 4000] [pR (some q13.1)] _ hMq14 ⟨q643, q644, q146, q645, rfl, rfl⟩ dv7_init rfl ⟨(Nat.le_of_ble_eq_true rfl), (Nat.le_of_ble_eq_true rfl)⟩ rfl (Nat.le_of_ble_eq_true rfl) dX0_endorse_58 hczq14 te15 q1263 ⟨by decide, by decide, by decide⟩ q554 ?_
        exact j_sub [1] _ rfl (t0_endorse_b78 hfl v0 (some e15) q14.2 hcs hf)
      · rw [zq14] at hf hMq14
        replace hf := telR hf
        refine t_callI [pR v0, pR (some q7.1), pI 4000] [pR (some q13.1)] _ hMq14 ⟨q643, q644, q146, q645, rfl, rfl⟩ dv7_init rfl ⟨(Nat.le_of_ble_eq_true rfl), (Nat.le_of_ble_eq_true rfl)⟩ rfl (Nat.le_of_ble_eq_true rfl) dX0_endorse_58 hczq14 ?_
        refine j_aload_n dX0_endorse_61 1 rfl ?_
        refine j_iload_n dX0_endorse_62 2 rfl ?_
        obtain ⟨b17, hb17, hf⟩ := ob hf
        obtain ⟨eb17, tb17⟩ := ztg_s hb17
        obtain ⟨x18, hx18, hf⟩ := ob hf
        refine a_Vr [pI v1] [pR (some q13.1)] (t0_the (some b17) v1 q14.2 hx18) ⟨q1268, q1270, qs38, q128, q1271⟩ dv0_the rfl ⟨(Nat.le_of_ble_eq_true rfl), (Nat.le_of_ble_eq_true rfl)⟩ (c_recv zcl_0 tb17) (by rw [← eb17]; rfl) (Nat.le_of_ble_eq_true rfl) dX0_endorse_63 (hcs_ret (x := ()) (r := ()) hcs) ?_
        obtain ⟨b19, hb19, hf⟩ := ob hf
        obtain ⟨eb19, tb19⟩ := ztg_s hb19
        obtain ⟨q20, kq20, mq20, k_q20, m_q20, hq20, hf, hkq20, hmq20⟩ := bdU_s hf
        obtain ⟨hczq20, hcs⟩ := hcs_step hcs hkq20 hmq20
        have hMq20 := t7_endorsement (A := A) hfl (some b19) x18 q14.2 hq20
        rcases zq20 : q20.1 with e21 | x22
        · rw [zq20] at hf hMq20
          replace hf := telL hf
          obtain ⟨b28, hb28, hf⟩ := ob hf
          obtain ⟨eb28, tb28⟩ := ztg_s hb28
          have te21 : zT q20.2 e21 = 9 := by cases eb28; exact tb28
          refine hc_callV [pR x18] [] _ hMq20 ⟨q1298, q1299, q1300, q146, q1301⟩ dv7_endorsement rfl ⟨(Nat.le_of_ble_eq_true rfl), (Nat.le_of_ble_eq_true rfl)⟩ (c_recv zcl_7 tb19) (by rw [← eb19]; rfl) (Nat.le_of_ble_eq_true rfl) dX0_endorse_66 hczq20 te21 q1263 ⟨by decide, by decide, by decide⟩ q554 ?_
          exact j_sub [1] _ rfl (t0_endorse_b78 hfl v0 (some e21) q20.2 hcs hf)
        · rw [zq20] at hf hMq20
          replace hf := telR hf
          refine t_callV [pR x18] [] _ hMq20 ⟨q1298, q1299, q1300, q146, q1301⟩ dv7_endorsement rfl ⟨(Nat.le_of_ble_eq_true rfl), (Nat.le_of_ble_eq_true rfl)⟩ (c_recv zcl_7 tb19) (by rw [← eb19]; rfl) (Nat.le_of_ble_eq_true rfl) dX0_endorse_66 hczq20 ?_
          refine j_aload_n dX0_endorse_69 1 rfl ?_
          refine j_aload_n dX0_endorse_70 0 rfl ?_
          obtain ⟨b23, hb23, hf⟩ := ob hf
          obtain ⟨eb23, tb23⟩ := ztg_s hb23
          obtain ⟨q24, kq24, mq24, k_q24, m_q24, hq24, hf, hkq24, hmq24⟩ := bdU_s hf
          obtain ⟨hczq24, hcs⟩ := hcs_step hcs hkq24 hmq24
          have hMq24 := t0_finish (A := A) hfl (some b23) (some q7.1) q20.2 hq24
          rcases zq24 : q24.1 with e25 | x26
          · rw [zq24] at hf hMq24
            replace hf := telL hf
            obtain ⟨b27, hb27, hf⟩ := ob hf
            obtain ⟨eb27, tb27⟩ := ztg_s hb27
            have te25 : zT q24.2 e25 = 9 := by cases eb27; exact tb27
            refine hc_callV [pR (some q7.1)] [] _ hMq24 ⟨q1133, q1135, qs35, q128, q1136⟩ dv0_finish rfl ⟨(Nat.le_of_ble_eq_true rfl), (Nat.le_of_ble_eq_true rfl)⟩ (c_recv zcl_0 tb23) (by rw [← eb23]; rfl) (Nat.le_of_ble_eq_true rfl) dX0_endorse_71 hczq24 te25 q1263 ⟨by decide, by decide, by decide⟩ q554 ?_
            exact j_sub [1] _ rfl (t0_endorse_b78 hfl v0 (some e25) q24.2 hcs hf)
          · rw [zq24] at hf hMq24
            replace hf := telR hf
            refine t_callV [pR (some q7.1)] [] _ hMq24 ⟨q1133, q1135, qs35, q128, q1136⟩ dv0_finish rfl ⟨(Nat.le_of_ble_eq_true rfl), (Nat.le_of_ble_eq_true rfl)⟩ (c_recv zcl_0 tb23) (by rw [← eb23]; rfl) (Nat.le_of_ble_eq_true rfl) dX0_endorse_71 hczq24 ?_
            refine j_istore_n dX0_endorse_74 [(2, pI x26), (3, pR (some q7.1)), (0, pR v0), (1, pI v1)] (Nat.le_of_ble_eq_true rfl) rfl ?_
            refine j_goto 85 dX0_endorse_75 (by decide) ?_
            exact j_sub [2, 0] _ rfl (t0_endorse_b85 hfl v0 x26 q24.2 hcs hf)
    · replace hf := it h30 hf
      refine j_bipush dX0_endorse_24 (by decide) ?_
      replace hf := retU hf
      subst hf
      exact t_ofret (j_ireturn (bC_mv G A) (hcs_ret (x := ()) (r := ()) hcs) rfl dX0_endorse_26)
  · replace hf := it h31 hf
    refine j_iconst dX0_endorse_8 ?_
    replace hf := retU hf
    subst hf
    exact t_ofret (j_ireturn (bC_mv G A) (hcs_ret (x := ()) (r := ()) hcs) rfl dX0_endorse_9)

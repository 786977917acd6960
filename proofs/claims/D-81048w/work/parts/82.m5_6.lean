theorem c5_pay {G : MG} {l : Launch} {r : Int × Mu} (v1 : Int) (v2 : Int) (u : Mu) (hf : m5_pay v1 v2 u = some r) : JM kT (bM G) (aM G) l yX5_pay D5_pay [pR (some G.1), pI v1, pI v2] u (some (pI r.1)) r.2 0 0 := by
  refine j_met (lv0 := [(0, pR (some G.1)), (1, pI v1), (2, pI v2)]) ⟨pl_X5, rfl, rfl, (Nat.le_of_ble_eq_true rfl), rfl⟩ ?_
  unfold m5_pay at hf
  refine j_aload_n dX5_pay_0 0 rfl ?_
  refine j_iload_n dX5_pay_1 1 rfl ?_
  obtain ⟨x1, hx1, hf⟩ := ob hf
  refine j_cVr [pI v1] [] kT_v (bM_mv G) (c5_isClaim v1 u hx1) wv5_isClaim dv5_isClaim rfl ⟨(Nat.le_of_ble_eq_true rfl), (Nat.le_of_ble_eq_true rfl)⟩ (m_recv u) rfl (Nat.le_of_ble_eq_true rfl) dX5_pay_2 ⟨Nat.le_refl 0, Nat.le_refl 0⟩ ?_
  refine j_if_ne (w32 x1) rfl 10 dX5_pay_5 (by decide) (fun h7 => ?_) (fun h7 => ?_)
  · replace hf := ie h7 hf
    refine j_iload_n dX5_pay_10 2 rfl ?_
    obtain ⟨x2, hx2, hf⟩ := ob hf
    refine j_cSr [pI v2] [] kT_v (bM_mv G) (c5_isDay v2 u hx2) wv5_isDay dv5_isDay rfl ⟨(Nat.le_of_ble_eq_true rfl), (Nat.le_of_ble_eq_true rfl)⟩ rfl (Nat.le_of_ble_eq_true rfl) dX5_pay_11 ⟨Nat.le_refl 0, Nat.le_refl 0⟩ ?_
    refine j_if_ne (w32 x2) rfl 20 dX5_pay_14 (by decide) (fun h6 => ?_) (fun h6 => ?_)
    · replace hf := ie h6 hf
      refine j_aload_n dX5_pay_20 0 rfl ?_
      refine j_aload_n dX5_pay_21 0 rfl ?_
      refine m_geta mf_88 rfl dX5_pay_22 ?_
      refine j_iload_n dX5_pay_25 1 rfl ?_
      obtain ⟨x3, hx3, hf⟩ := ob hf
      refine m_iald mr_88 hx3 dX5_pay_26 ?_
      refine j_iload_n dX5_pay_27 2 rfl ?_
      obtain ⟨u4, hu4, hf⟩ := ob hf
      refine j_cVv [pI x3, pI v2] [] kT_v (bM_mv G) (c5_payAll x3 v2 u hu4) wv5_payAll dv5_payAll rfl ⟨(Nat.le_of_ble_eq_true rfl), (Nat.le_of_ble_eq_true rfl)⟩ (m_recv u) rfl (Nat.le_of_ble_eq_true rfl) dX5_pay_28 ⟨Nat.le_refl 0, Nat.le_refl 0⟩ ?_
      refine j_aload_n dX5_pay_31 0 rfl ?_
      refine m_geta mf_95 rfl dX5_pay_32 ?_
      refine j_iload_n dX5_pay_35 1 rfl ?_
      obtain ⟨x5, hx5, hf⟩ := ob hf
      refine m_lald mr_95 hx5 dX5_pay_36 ?_
      refine j_l2i dX5_pay_37 ?_
      replace hf := Option.some.inj hf
      subst hf
      exact j_ireturn (bM_mv G) ⟨Nat.le_refl 0, Nat.le_refl 0⟩ rfl dX5_pay_38
    · replace hf := it h6 hf
      refine j_bipush dX5_pay_17 (by decide) ?_
      replace hf := Option.some.inj hf
      subst hf
      exact j_ireturn (bM_mv G) ⟨Nat.le_refl 0, Nat.le_refl 0⟩ rfl dX5_pay_19
  · replace hf := it h7 hf
    refine j_iconst dX5_pay_8 ?_
    replace hf := Option.some.inj hf
    subst hf
    exact j_ireturn (bM_mv G) ⟨Nat.le_refl 0, Nat.le_refl 0⟩ rfl dX5_pay_9
theorem c5_used_b85 {G : MG} {l : Launch} {a : List PV} {r : Int × Mu} {Kf : Int → Option (Int × Mu)} {v1 : Int} {v2 : Int} {u : Mu} (kh : Int → Int → Option (Int)) (hkh : ∀ (z4 : Int) (z6 : Int), ((kh z4 z6).bind Kf = some r) → J5 G l D5_used a (some (pL r.1)) r.2 u 46 [(0, pR (some G.1)), (1, pI v1), (2, pI v2), (4, pL z4), (6, pI z6)] []) (hK0 : ∀ q : Int, Kf q = some r → J5 G l D5_used a (some (pL r.1)) r.2 u 103 [(4, pL q)] []) (v4 : Int) (v6 : Int) (hf : (m5_used_b85 kh v1 v2 v4 v6 u).bind Kf = some r) : J5 G l D5_used a (some (pL r.1)) r.2 u 85 [(0, pR (some G.1)), (1, pI v1), (2, pI v2), (4, pL v4), (6, pI v6)] [] := by
  unfold m5_used_b85 at hf
  refine j_lload dX5_used_85 3 rfl ?_
  refine j_aload_n dX5_used_87 0 rfl ?_
  refine m_geta mf_95 rfl dX5_used_88 ?_
  refine j_iload dX5_used_91 4 rfl ?_
  obtain ⟨x1, hx1, hf⟩ := obb hf
  refine m_lald mr_95 hx1 dX5_used_93 ?_
  refine j_ladd dX5_used_94 ?_
  refine j_lstore dX5_used_95 [(4, pL (v4 + x1)), (0, pR (some G.1)), (1, pI v1), (2, pI v2), (6, pI v6)] (Nat.le_of_ble_eq_true rfl) rfl ?_
  refine j_iinc dX5_used_97 4 rfl [(6, pI (v6 + 1)), (4, pL (v4 + x1)), (0, pR (some G.1)), (1, pI v1), (2, pI v2)] (Nat.le_of_ble_eq_true rfl) rfl ?_
  refine j_goto 46 dX5_used_100 (by decide) ?_
  exact j_sub [2, 3, 4, 1, 0] _ rfl (hkh (v4 + x1) (v6 + 1) hf)
theorem c5_used_l46 {G : MG} {l : Launch} {a : List PV} {r : Int × Mu} {Kf : Int → Option (Int × Mu)} (v1 : Int) (v2 : Int) (u : Mu) (hK0 : ∀ q : Int, Kf q = some r → J5 G l D5_used a (some (pL r.1)) r.2 u 103 [(4, pL q)] []) : ∀ (n : Nat) (v4 : Int) (v6 : Int), ((m5_used_l46 v1 v2 u n v4 v6).bind Kf = some r) → J5 G l D5_used a (some (pL r.1)) r.2 u 46 [(0, pR (some G.1)), (1, pI v1), (2, pI v2), (4, pL v4), (6, pI v6)] [] := by
  intro n
  induction n with
  | zero => intro v4 v6 hf; exact onb hf
  | succ n ih =>
    intro v4 v6 hf
    unfold m5_used_l46 at hf
    refine j_iload dX5_used_46 4 rfl ?_
    refine j_aload_n dX5_used_48 0 rfl ?_
    refine m_geti mf_87 rfl dX5_used_49 ?_
    refine j_icmp_gt (w32 v6) (w32 (u.1 87)) rfl rfl 103 dX5_used_52 (by decide) (fun h6 => ?_) (fun h6 => ?_)
    · replace hf := itb h6 hf
      exact j_sub [3] _ rfl (hK0 v4 hf)
    · replace hf := ieb h6 hf
      refine j_aload_n dX5_used_55 0 rfl ?_
      refine m_geta mf_88 rfl dX5_used_56 ?_
      refine j_iload dX5_used_59 4 rfl ?_
      obtain ⟨x1, hx1, hf⟩ := obb hf
      refine m_iald mr_88 hx1 dX5_used_61 ?_
      refine j_iload_n dX5_used_62 1 rfl ?_
      refine j_icmp_ne (w32 x1) (w32 v1) rfl rfl 97 dX5_used_63 (by decide) (fun h5 => ?_) (fun h5 => ?_)
      · replace hf := ieb h5 hf
        refine j_iinc dX5_used_97 4 rfl [(6, pI (v6 + 1)), (0, pR (some G.1)), (1, pI v1), (2, pI v2), (4, pL v4)] (Nat.le_of_ble_eq_true rfl) rfl ?_
        refine j_goto 46 dX5_used_100 (by decide) ?_
        exact j_sub [1, 2, 3, 4, 0] _ rfl (ih v4 (v6 + 1) hf)
      · replace hf := itb h5 hf
        refine j_iload_n dX5_used_66 2 rfl ?_
        refine j_if_lt (w32 v2) rfl 85 dX5_used_67 (by decide) (fun h4 => ?_) (fun h4 => ?_)
        · replace hf := itb h4 hf
          exact j_sub [0, 1, 2, 3, 4] _ rfl (c5_used_b85 (m5_used_l46 v1 v2 u n) ih hK0 v4 v6 hf)
        · replace hf := ieb h4 hf
          refine j_aload_n dX5_used_70 0 rfl ?_
          refine m_geta mf_90 rfl dX5_used_71 ?_
          refine j_iload dX5_used_74 4 rfl ?_
          obtain ⟨x2, hx2, hf⟩ := obb hf
          refine m_iald mr_90 hx2 dX5_used_76 ?_
          refine j_sipush dX5_used_77 (by decide) ?_
          refine j_idiv dX5_used_80 (by decide) ?_
          refine j_iload_n dX5_used_81 2 rfl ?_
          refine j_icmp_ne (w32 (div32 x2 365)) (w32 v2) rfl rfl 97 dX5_used_82 (by decide) (fun h3 => ?_) (fun h3 => ?_)
          · replace hf := ieb h3 hf
            refine j_iinc dX5_used_97 4 rfl [(6, pI (v6 + 1)), (0, pR (some G.1)), (1, pI v1), (2, pI v2), (4, pL v4)] (Nat.le_of_ble_eq_true rfl) rfl ?_
            refine j_goto 46 dX5_used_100 (by decide) ?_
            exact j_sub [1, 2, 3, 4, 0] _ rfl (ih v4 (v6 + 1) hf)
          · replace hf := itb h3 hf
            exact j_sub [0, 1, 2, 3, 4] _ rfl (c5_used_b85 (m5_used_l46 v1 v2 u n) ih hK0 v4 v6 hf)
theorem c5_used {G : MG} {l : Launch} {r : Int × Mu} (v1 : Int) (v2 : Int) (v3 : Int) (u : Mu) (hf : m5_used v1 v2 v3 u = some r) : JM kT (bM G) (aM G) l yX5_used D5_used [pR (some G.1), pI v1, pI v2, pI v3] u (some (pL r.1)) r.2 0 0 := by
  refine j_met (lv0 := [(0, pR (some G.1)), (1, pI v1), (2, pI v2), (3, pI v3)]) ⟨pl_X5, rfl, rfl, (Nat.le_of_ble_eq_true rfl), rfl⟩ ?_
  unfold m5_used at hf
  refine j_aload_n dX5_used_0 0 rfl ?_
  refine j_iload_n dX5_used_1 1 rfl ?_
  obtain ⟨x1, hx1, hf⟩ := ob hf
  refine j_cVr [pI v1] [] kT_v (bM_mv G) (c5_isPolicy v1 u hx1) wv5_isPolicy dv5_isPolicy rfl ⟨(Nat.le_of_ble_eq_true rfl), (Nat.le_of_ble_eq_true rfl)⟩ (m_recv u) rfl (Nat.le_of_ble_eq_true rfl) dX5_used_2 ⟨Nat.le_refl 0, Nat.le_refl 0⟩ ?_
  refine j_if_ne (w32 x1) rfl 12 dX5_used_5 (by decide) (fun h8 => ?_) (fun h8 => ?_)
  · replace hf := ie h8 hf
    refine j_iload_n dX5_used_12 2 rfl ?_
    refine j_iconst dX5_used_13 ?_
    refine j_icmp_lt (w32 v2) (-1) rfl rfl 30 dX5_used_14 (by decide) (fun h7 => ?_) (fun h7 => ?_)
    · replace hf := it h7 hf
      refine j_ldc2 (z := (-2)) q2608 (by decide) dX5_used_30 ?_
      replace hf := Option.some.inj hf
      subst hf
      exact j_lreturn (bM_mv G) ⟨Nat.le_refl 0, Nat.le_refl 0⟩ rfl dX5_used_33
    · replace hf := ie h7 hf
      refine j_iload_n dX5_used_17 2 rfl ?_
      refine j_bipush dX5_used_18 (by decide) ?_
      refine j_icmp_gt (w32 v2) 27 rfl rfl 30 dX5_used_20 (by decide) (fun h6 => ?_) (fun h6 => ?_)
      · replace hf := it h6 hf
        refine j_ldc2 (z := (-2)) q2608 (by decide) dX5_used_30 ?_
        replace hf := Option.some.inj hf
        subst hf
        exact j_lreturn (bM_mv G) ⟨Nat.le_refl 0, Nat.le_refl 0⟩ rfl dX5_used_33
      · replace hf := ie h6 hf
        refine j_iload_n dX5_used_23 3 rfl ?_
        obtain ⟨x2, hx2, hf⟩ := ob hf
        refine j_cSr [pI v3] [] kT_v (bM_mv G) (c5_isDay v3 u hx2) wv5_isDay dv5_isDay rfl ⟨(Nat.le_of_ble_eq_true rfl), (Nat.le_of_ble_eq_true rfl)⟩ rfl (Nat.le_of_ble_eq_true rfl) dX5_used_24 ⟨Nat.le_refl 0, Nat.le_refl 0⟩ ?_
        refine j_if_ne (w32 x2) rfl 34 dX5_used_27 (by decide) (fun h5 => ?_) (fun h5 => ?_)
        · replace hf := ie h5 hf
          refine j_aload_n dX5_used_34 0 rfl ?_
          refine j_iload_n dX5_used_35 1 rfl ?_
          refine j_iload_n dX5_used_36 3 rfl ?_
          obtain ⟨u3, hu3, hf⟩ := ob hf
          refine j_cVv [pI v1, pI v3] [] kT_v (bM_mv G) (c5_payAll v1 v3 u hu3) wv5_payAll dv5_payAll rfl ⟨(Nat.le_of_ble_eq_true rfl), (Nat.le_of_ble_eq_true rfl)⟩ (m_recv u) rfl (Nat.le_of_ble_eq_true rfl) dX5_used_37 ⟨Nat.le_refl 0, Nat.le_refl 0⟩ ?_
          refine j_lconst (z := 0) dX5_used_40 rfl ?_
          refine j_lstore dX5_used_41 [(4, pL 0), (0, pR (some G.1)), (1, pI v1), (2, pI v2), (3, pI v3)] (Nat.le_of_ble_eq_true rfl) rfl ?_
          refine j_iconst dX5_used_43 ?_
          refine j_istore dX5_used_44 [(6, pI 1), (4, pL 0), (0, pR (some G.1)), (1, pI v1), (2, pI v2), (3, pI v3)] (Nat.le_of_ble_eq_true rfl) rfl ?_
          refine j_sub [2, 3, 4, 1, 0] _ rfl (c5_used_l46 v1 v2 u3 ?_ NN 0 1 hf)
          · intro q4 hf
            refine j_lload dX5_used_103 0 rfl ?_
            replace hf := Option.some.inj hf
            subst hf
            exact j_lreturn (bM_mv G) ⟨Nat.le_refl 0, Nat.le_refl 0⟩ rfl dX5_used_105
        · replace hf := it h5 hf
          refine j_ldc2 (z := (-2)) q2608 (by decide) dX5_used_30 ?_
          replace hf := Option.some.inj hf
          subst hf
          exact j_lreturn (bM_mv G) ⟨Nat.le_refl 0, Nat.le_refl 0⟩ rfl dX5_used_33
  · replace hf := it h8 hf
    refine j_ldc2 (z := (-1)) q2607 (by decide) dX5_used_8 ?_
    replace hf := Option.some.inj hf
    subst hf
    exact j_lreturn (bM_mv G) ⟨Nat.le_refl 0, Nat.le_refl 0⟩ rfl dX5_used_11
theorem c5_treaty_b49 {G : MG} {l : Launch} {a : List PV} {r : Int × Mu} (v1 : Int) (v2 : Int) (v3 : Int) (u : Mu) (hf : m5_treaty_b49 v1 v2 v3 u = some r) : J5 G l D5_treaty a (some (pI r.1)) r.2 u 49 [(0, pR (some G.1)), (1, pI v1), (2, pI v2), (3, pI v3)] [] := by
  unfold m5_treaty_b49 at hf
  refine j_aload_n dX5_treaty_49 0 rfl ?_
  refine m_geti mf_97 rfl dX5_treaty_50 ?_
  refine j_bipush dX5_treaty_53 (by decide) ?_
  refine j_icmp_ne (w32 (u.1 97)) 6 rfl rfl 61 dX5_treaty_55 (by decide) (fun h5 => ?_) (fun h5 => ?_)
  · replace hf := ie h5 hf
    refine j_aload_n dX5_treaty_61 0 rfl ?_
    refine m_geta mf_98 rfl dX5_treaty_62 ?_
    refine j_aload_n dX5_treaty_65 0 rfl ?_
    refine m_geti mf_97 rfl dX5_treaty_66 ?_
    refine j_iload_n dX5_treaty_69 1 rfl ?_
    obtain ⟨u1, hu1, hf⟩ := ob hf
    refine m_iast mr_98 hu1 dX5_treaty_70 ?_
    refine j_aload_n dX5_treaty_71 0 rfl ?_
    refine m_geta mf_99 rfl dX5_treaty_72 ?_
    refine j_aload_n dX5_treaty_75 0 rfl ?_
    refine m_geti mf_97 rfl dX5_treaty_76 ?_
    refine j_iload_n dX5_treaty_79 2 rfl ?_
    obtain ⟨u2, hu2, hf⟩ := ob hf
    refine m_iast mr_99 hu2 dX5_treaty_80 ?_
    refine j_aload_n dX5_treaty_81 0 rfl ?_
    refine m_geta mf_100 rfl dX5_treaty_82 ?_
    refine j_aload_n dX5_treaty_85 0 rfl ?_
    refine m_geti mf_97 rfl dX5_treaty_86 ?_
    refine j_iload_n dX5_treaty_89 3 rfl ?_
    obtain ⟨u3, hu3, hf⟩ := ob hf
    refine m_iast mr_100 hu3 dX5_treaty_90 ?_
    refine j_aload_n dX5_treaty_91 0 rfl ?_
    refine j_dup dX5_treaty_92 rfl ?_
    refine m_geti mf_97 rfl dX5_treaty_93 ?_
    refine j_iconst dX5_treaty_96 ?_
    refine j_iadd dX5_treaty_97 ?_
    obtain ⟨u4, hu4, hf⟩ := ob hf
    refine m_puti_ hu4 mf_97 mfw_97 rfl dX5_treaty_98 ?_
    refine j_aload_n dX5_treaty_101 0 rfl ?_
    refine m_geti mf_97 rfl dX5_treaty_102 ?_
    refine j_iconst dX5_treaty_105 ?_
    refine j_isub dX5_treaty_106 ?_
    replace hf := Option.some.inj hf
    subst hf
    exact j_ireturn (bM_mv G) ⟨Nat.le_refl 0, Nat.le_refl 0⟩ rfl dX5_treaty_107
  · replace hf := it h5 hf
    refine j_bipush dX5_treaty_58 (by decide) ?_
    replace hf := Option.some.inj hf
    subst hf
    exact j_ireturn (bM_mv G) ⟨Nat.le_refl 0, Nat.le_refl 0⟩ rfl dX5_treaty_60
theorem c5_treaty_b27 {G : MG} {l : Launch} {a : List PV} {r : Int × Mu} (v1 : Int) (v2 : Int) (v3 : Int) (s0 : Int) (s1 : Int) (u : Mu) (hf : m5_treaty_b27 v1 v2 v3 s0 s1 u = some r) : J5 G l D5_treaty a (some (pI r.1)) r.2 u 27 [(0, pR (some G.1)), (1, pI v1), (2, pI v2), (3, pI v3)] [pI s1, pI s0] := by
  unfold m5_treaty_b27 at hf
  refine j_icmp_gt (w32 s0) (w32 s1) rfl rfl 46 dX5_treaty_27 (by decide) (fun h4 => ?_) (fun h4 => ?_)
  · replace hf := it h4 hf
    refine j_bipush dX5_treaty_46 (by decide) ?_
    replace hf := Option.some.inj hf
    subst hf
    exact j_ireturn (bM_mv G) ⟨Nat.le_refl 0, Nat.le_refl 0⟩ rfl dX5_treaty_48
  · replace hf := ie h4 hf
    refine j_iload_n dX5_treaty_30 1 rfl ?_
    refine j_iconst dX5_treaty_31 ?_
    refine j_icmp_ne (w32 v1) 1 rfl rfl 49 dX5_treaty_32 (by decide) (fun h3 => ?_) (fun h3 => ?_)
    · replace hf := ie h3 hf
      exact j_sub [0, 1, 2, 3] _ rfl (c5_treaty_b49 v1 v2 v3 u hf)
    · replace hf := it h3 hf
      refine j_iload_n dX5_treaty_35 3 rfl ?_
      refine j_if_lt (w32 v3) rfl 46 dX5_treaty_36 (by decide) (fun h2 => ?_) (fun h2 => ?_)
      · replace hf := it h2 hf
        refine j_bipush dX5_treaty_46 (by decide) ?_
        replace hf := Option.some.inj hf
        subst hf
        exact j_ireturn (bM_mv G) ⟨Nat.le_refl 0, Nat.le_refl 0⟩ rfl dX5_treaty_48
      · replace hf := ie h2 hf
        refine j_iload_n dX5_treaty_39 3 rfl ?_
        refine j_ldcw (z := 99999999) q2327 (by decide) dX5_treaty_40 ?_
        refine j_icmp_le (w32 v3) 99999999 rfl rfl 49 dX5_treaty_43 (by decide) (fun h1 => ?_) (fun h1 => ?_)
        · replace hf := it h1 hf
          exact j_sub [0, 1, 2, 3] _ rfl (c5_treaty_b49 v1 v2 v3 u hf)
        · replace hf := ie h1 hf
          refine j_bipush dX5_treaty_46 (by decide) ?_
          replace hf := Option.some.inj hf
          subst hf
          exact j_ireturn (bM_mv G) ⟨Nat.le_refl 0, Nat.le_refl 0⟩ rfl dX5_treaty_48
theorem c5_treaty {G : MG} {l : Launch} {r : Int × Mu} (v1 : Int) (v2 : Int) (v3 : Int) (u : Mu) (hf : m5_treaty v1 v2 v3 u = some r) : JM kT (bM G) (aM G) l yX5_treaty D5_treaty [pR (some G.1), pI v1, pI v2, pI v3] u (some (pI r.1)) r.2 0 0 := by
  refine j_met (lv0 := [(0, pR (some G.1)), (1, pI v1), (2, pI v2), (3, pI v3)]) ⟨pl_X5, rfl, rfl, (Nat.le_of_ble_eq_true rfl), rfl⟩ ?_
  unfold m5_treaty at hf
  refine j_iload_n dX5_treaty_0 1 rfl ?_
  refine j_if_lt (w32 v1) rfl 46 dX5_treaty_1 (by decide) (fun h4 => ?_) (fun h4 => ?_)
  · replace hf := it h4 hf
    refine j_bipush dX5_treaty_46 (by decide) ?_
    replace hf := Option.some.inj hf
    subst hf
    exact j_ireturn (bM_mv G) ⟨Nat.le_refl 0, Nat.le_refl 0⟩ rfl dX5_treaty_48
  · replace hf := ie h4 hf
    refine j_iload_n dX5_treaty_4 1 rfl ?_
    refine j_iconst dX5_treaty_5 ?_
    refine j_icmp_gt (w32 v1) 1 rfl rfl 46 dX5_treaty_6 (by decide) (fun h3 => ?_) (fun h3 => ?_)
    · replace hf := it h3 hf
      refine j_bipush dX5_treaty_46 (by decide) ?_
      replace hf := Option.some.inj hf
      subst hf
      exact j_ireturn (bM_mv G) ⟨Nat.le_refl 0, Nat.le_refl 0⟩ rfl dX5_treaty_48
    · replace hf := ie h3 hf
      refine j_iload_n dX5_treaty_9 2 rfl ?_
      refine j_if_lt (w32 v2) rfl 46 dX5_treaty_10 (by decide) (fun h2 => ?_) (fun h2 => ?_)
      · replace hf := it h2 hf
        refine j_bipush dX5_treaty_46 (by decide) ?_
        replace hf := Option.some.inj hf
        subst hf
        exact j_ireturn (bM_mv G) ⟨Nat.le_refl 0, Nat.le_refl 0⟩ rfl dX5_treaty_48
      · replace hf := ie h2 hf
        refine j_iload_n dX5_treaty_13 2 rfl ?_
        refine j_iload_n dX5_treaty_14 1 rfl ?_
        refine j_if_ne (w32 v1) rfl 24 dX5_treaty_15 (by decide) (fun h1 => ?_) (fun h1 => ?_)
        · replace hf := ie h1 hf
          refine j_ldcw (z := 99999999) q2327 (by decide) dX5_treaty_24 ?_
          exact j_sub [0, 1, 2, 3] _ rfl (c5_treaty_b27 v1 v2 v3 v2 99999999 u hf)
        · replace hf := it h1 hf
          refine j_sipush dX5_treaty_18 (by decide) ?_
          refine j_goto 27 dX5_treaty_21 (by decide) ?_
          exact j_sub [0, 1, 2, 3] _ rfl (c5_treaty_b27 v1 v2 v3 v2 1000 u hf)
theorem c5_takes_b83 {G : MG} {l : Launch} {a : List PV} {r : Int} {Kf : (Int) ⊕ (Int) → Option (Int)} {v3 : Int} {u : Mu} (kh : Int → Int → Option ((Int) ⊕ (Int))) (hkh : ∀ (z4 : Int) (z6 : Int), ((kh z4 z6).bind Kf = some r) → J5 G l D5_takes a (some (pL r)) u u 6 [(0, pR (some G.1)), (3, pI v3), (4, pL z4), (6, pI z6)] []) (hK0 : ∀ q : Int, Kf (.inl q) = some r → J5 G l D5_takes a (some (pL r)) u u 91 [(7, pL q)] []) (hK1 : ∀ q : Int, Kf (.inr q) = some r → J5 G l D5_takes a (some (pL r)) u u 107 [(4, pL q)] []) (v4 : Int) (v6 : Int) (s0 : Int) (hf : (m5_takes_b83 kh v3 v4 v6 s0 u).bind Kf = some r) : J5 G l D5_takes a (some (pL r)) u u 83 [(0, pR (some G.1)), (3, pI v3), (4, pL v4), (6, pI v6)] [pL s0] := by
  unfold m5_takes_b83 at hf
  refine j_lstore dX5_takes_83 [(7, pL s0), (0, pR (some G.1)), (3, pI v3), (4, pL v4), (6, pI v6)] (Nat.le_of_ble_eq_true rfl) rfl ?_
  refine j_iload dX5_takes_85 4 rfl ?_
  refine j_iload_n dX5_takes_87 2 rfl ?_
  refine j_icmp_ne (w32 v6) (w32 v3) rfl rfl 94 dX5_takes_88 (by decide) (fun h1 => ?_) (fun h1 => ?_)
  · replace hf := ieb h1 hf
    refine j_lload dX5_takes_94 3 rfl ?_
    refine j_lload dX5_takes_96 0 rfl ?_
    refine j_lsub dX5_takes_98 ?_
    refine j_lstore dX5_takes_99 [(4, pL (v4 - s0)), (7, pL s0), (0, pR (some G.1)), (3, pI v3), (6, pI v6)] (Nat.le_of_ble_eq_true rfl) rfl ?_
    refine j_iinc dX5_takes_101 4 rfl [(6, pI (v6 + 1)), (4, pL (v4 - s0)), (7, pL s0), (0, pR (some G.1)), (3, pI v3)] (Nat.le_of_ble_eq_true rfl) rfl ?_
    refine j_goto 6 dX5_takes_104 (by decide) ?_
    exact j_sub [3, 4, 1, 0] _ rfl (hkh (v4 - s0) (v6 + 1) hf)
  · replace hf := itb h1 hf
    exact j_sub [0] _ rfl (hK0 s0 hf)
theorem c5_takes_b72 {G : MG} {l : Launch} {a : List PV} {r : Int} {Kf : (Int) ⊕ (Int) → Option (Int)} {v3 : Int} {u : Mu} (kh : Int → Int → Option ((Int) ⊕ (Int))) (hkh : ∀ (z4 : Int) (z6 : Int), ((kh z4 z6).bind Kf = some r) → J5 G l D5_takes a (some (pL r)) u u 6 [(0, pR (some G.1)), (3, pI v3), (4, pL z4), (6, pI z6)] []) (hK0 : ∀ q : Int, Kf (.inl q) = some r → J5 G l D5_takes a (some (pL r)) u u 91 [(7, pL q)] []) (hK1 : ∀ q : Int, Kf (.inr q) = some r → J5 G l D5_takes a (some (pL r)) u u 107 [(4, pL q)] []) (v4 : Int) (v6 : Int) (s0 : Int) (hf : (m5_takes_b72 kh v3 v4 v6 s0 u).bind Kf = some r) : J5 G l D5_takes a (some (pL r)) u u 72 [(0, pR (some G.1)), (3, pI v3), (4, pL v4), (6, pI v6)] [pL s0] := by
  unfold m5_takes_b72 at hf
  refine j_aload_n dX5_takes_72 0 rfl ?_
  refine m_geta mf_100 rfl dX5_takes_73 ?_
  refine j_iload dX5_takes_76 3 rfl ?_
  obtain ⟨x1, hx1, hf⟩ := obb hf
  refine m_iald mr_100 hx1 dX5_takes_78 ?_
  refine j_i2l dX5_takes_79 ?_
  obtain ⟨x2, hx2, hf⟩ := obb hf
  refine j_cSr [pL s0, pL (w32 x1)] [] kT_v (bM_mv G) (c5_lesser s0 (w32 x1) u hx2) wv5_lesser dv5_lesser rfl ⟨(Nat.le_of_ble_eq_true rfl), (Nat.le_of_ble_eq_true rfl)⟩ rfl (Nat.le_of_ble_eq_true rfl) dX5_takes_80 ⟨Nat.le_refl 0, Nat.le_refl 0⟩ ?_
  exact j_sub [0, 1, 2, 3] _ rfl (c5_takes_b83 (kh) hkh hK0 hK1 v4 v6 x2 hf)
theorem c5_takes_l6 {G : MG} {l : Launch} {a : List PV} {r : Int} {Kf : (Int) ⊕ (Int) → Option (Int)} (v3 : Int) (u : Mu) (hK0 : ∀ q : Int, Kf (.inl q) = some r → J5 G l D5_takes a (some (pL r)) u u 91 [(7, pL q)] []) (hK1 : ∀ q : Int, Kf (.inr q) = some r → J5 G l D5_takes a (some (pL r)) u u 107 [(4, pL q)] []) : ∀ (n : Nat) (v4 : Int) (v6 : Int), ((m5_takes_l6 v3 u n v4 v6).bind Kf = some r) → J5 G l D5_takes a (some (pL r)) u u 6 [(0, pR (some G.1)), (3, pI v3), (4, pL v4), (6, pI v6)] [] := by
  intro n
  induction n with
  | zero => intro v4 v6 hf; exact onb hf
  | succ n ih =>
    intro v4 v6 hf
    unfold m5_takes_l6 at hf
    refine j_iload dX5_takes_6 3 rfl ?_
    refine j_aload_n dX5_takes_8 0 rfl ?_
    refine m_geti mf_97 rfl dX5_takes_9 ?_
    refine j_icmp_ge (w32 v6) (w32 (u.1 97)) rfl rfl 107 dX5_takes_12 (by decide) (fun h7 => ?_) (fun h7 => ?_)
    · replace hf := itb h7 hf
      exact j_sub [2] _ rfl (hK1 v4 hf)
    · replace hf := ieb h7 hf
      refine j_aload_n dX5_takes_15 0 rfl ?_
      refine m_geta mf_98 rfl dX5_takes_16 ?_
      refine j_iload dX5_takes_19 3 rfl ?_
      obtain ⟨x1, hx1, hf⟩ := obb hf
      refine m_iald mr_98 hx1 dX5_takes_21 ?_
      refine j_if_ne (w32 x1) rfl 43 dX5_takes_22 (by decide) (fun h6 => ?_) (fun h6 => ?_)
      · replace hf := ieb h6 hf
        refine j_lload dX5_takes_43 2 rfl ?_
        refine j_aload_n dX5_takes_45 0 rfl ?_
        refine m_geta mf_99 rfl dX5_takes_46 ?_
        refine j_iload dX5_takes_49 3 rfl ?_
        obtain ⟨x2, hx2, hf⟩ := obb hf
        refine m_iald mr_99 hx2 dX5_takes_51 ?_
        refine j_i2l dX5_takes_52 ?_
        refine j_lc_le 71 dX5_takes_53 dX5_takes_54 (by decide) (fun h4 => ?_) (fun h4 => ?_)
        · replace hf := itb h4 hf
          refine j_lconst (z := 0) dX5_takes_71 rfl ?_
          exact j_sub [0, 1, 2, 3] _ rfl (c5_takes_b72 (m5_takes_l6 v3 u n) ih hK0 hK1 v4 v6 0 hf)
        · replace hf := ieb h4 hf
          refine j_lload dX5_takes_57 2 rfl ?_
          refine j_aload_n dX5_takes_59 0 rfl ?_
          refine m_geta mf_99 rfl dX5_takes_60 ?_
          refine j_iload dX5_takes_63 3 rfl ?_
          obtain ⟨x3, hx3, hf⟩ := obb hf
          refine m_iald mr_99 hx3 dX5_takes_65 ?_
          refine j_i2l dX5_takes_66 ?_
          refine j_lsub dX5_takes_67 ?_
          refine j_goto 72 dX5_takes_68 (by decide) ?_
          exact j_sub [0, 1, 2, 3] _ rfl (c5_takes_b72 (m5_takes_l6 v3 u n) ih hK0 hK1 v4 v6 (v4 - (w32 x3)) hf)
      · replace hf := itb h6 hf
        refine j_lload dX5_takes_25 2 rfl ?_
        refine j_aload_n dX5_takes_27 0 rfl ?_
        refine m_geta mf_99 rfl dX5_takes_28 ?_
        refine j_iload dX5_takes_31 3 rfl ?_
        obtain ⟨x5, hx5, hf⟩ := obb hf
        refine m_iald mr_99 hx5 dX5_takes_33 ?_
        refine j_i2l dX5_takes_34 ?_
        refine j_lmul dX5_takes_35 ?_
        refine j_ldc2 (z := 1000) q2546 (by decide) dX5_takes_36 ?_
        refine j_ldiv dX5_takes_39 (by decide) ?_
        refine j_goto 83 dX5_takes_40 (by decide) ?_
        exact j_sub [0, 1, 2, 3] _ rfl (c5_takes_b83 (m5_takes_l6 v3 u n) ih hK0 hK1 v4 v6 (div64 (v4 * (w32 x5)) 1000) hf)
theorem c5_takes {G : MG} {l : Launch} {r : Int} (v1 : Int) (v3 : Int) (u : Mu) (hf : m5_takes v1 v3 u = some r) : JM kT (bM G) (aM G) l yX5_takes D5_takes [pR (some G.1), pL v1, pI v3] u (some (pL r)) u 0 0 := by
  refine j_met (lv0 := [(0, pR (some G.1)), (1, pL v1), (3, pI v3)]) ⟨pl_X5, rfl, rfl, (Nat.le_of_ble_eq_true rfl), rfl⟩ ?_
  unfold m5_takes at hf
  refine j_lload_n dX5_takes_0 1 rfl ?_
  refine j_lstore dX5_takes_1 [(4, pL v1), (0, pR (some G.1)), (1, pL v1), (3, pI v3)] (Nat.le_of_ble_eq_true rfl) rfl ?_
  refine j_iconst dX5_takes_3 ?_
  refine j_istore dX5_takes_4 [(6, pI 0), (4, pL v1), (0, pR (some G.1)), (1, pL v1), (3, pI v3)] (Nat.le_of_ble_eq_true rfl) rfl ?_
  refine j_sub [2, 4, 1, 0] _ rfl (c5_takes_l6 v3 u ?_ ?_ NN v1 0 hf)
  · intro q1 hf
    simp only [Sum.elim_inl, Sum.elim_inr] at hf
    refine j_lload dX5_takes_91 0 rfl ?_
    replace hf := Option.some.inj hf
    subst hf
    exact j_lreturn (bM_mv G) ⟨Nat.le_refl 0, Nat.le_refl 0⟩ rfl dX5_takes_93
  · intro q2 hf
    simp only [Sum.elim_inl, Sum.elim_inr] at hf
    refine j_lload dX5_takes_107 0 rfl ?_
    replace hf := Option.some.inj hf
    subst hf
    exact j_lreturn (bM_mv G) ⟨Nat.le_refl 0, Nat.le_refl 0⟩ rfl dX5_takes_109
theorem c5_ceded {G : MG} {l : Launch} {r : Int × Mu} (v1 : Int) (v2 : Int) (v3 : Int) (u : Mu) (hf : m5_ceded v1 v2 v3 u = some r) : JM kT (bM G) (aM G) l yX5_ceded D5_ceded [pR (some G.1), pI v1, pI v2, pI v3] u (some (pI r.1)) r.2 0 0 := by
  refine j_met (lv0 := [(0, pR (some G.1)), (1, pI v1), (2, pI v2), (3, pI v3)]) ⟨pl_X5, rfl, rfl, (Nat.le_of_ble_eq_true rfl), rfl⟩ ?_
  unfold m5_ceded at hf
  refine j_aload_n dX5_ceded_0 0 rfl ?_
  refine j_iload_n dX5_ceded_1 1 rfl ?_
  obtain ⟨x1, hx1, hf⟩ := ob hf
  refine j_cVr [pI v1] [] kT_v (bM_mv G) (c5_isClaim v1 u hx1) wv5_isClaim dv5_isClaim rfl ⟨(Nat.le_of_ble_eq_true rfl), (Nat.le_of_ble_eq_true rfl)⟩ (m_recv u) rfl (Nat.le_of_ble_eq_true rfl) dX5_ceded_2 ⟨Nat.le_refl 0, Nat.le_refl 0⟩ ?_
  refine j_if_eq (w32 x1) rfl 21 dX5_ceded_5 (by decide) (fun h8 => ?_) (fun h8 => ?_)
  · replace hf := it h8 hf
    refine j_iconst dX5_ceded_21 ?_
    replace hf := Option.some.inj hf
    subst hf
    exact j_ireturn (bM_mv G) ⟨Nat.le_refl 0, Nat.le_refl 0⟩ rfl dX5_ceded_22
  · replace hf := ie h8 hf
    refine j_iload_n dX5_ceded_8 2 rfl ?_
    refine j_iconst dX5_ceded_9 ?_
    refine j_icmp_lt (w32 v2) (-1) rfl rfl 21 dX5_ceded_10 (by decide) (fun h7 => ?_) (fun h7 => ?_)
    · replace hf := it h7 hf
      refine j_iconst dX5_ceded_21 ?_
      replace hf := Option.some.inj hf
      subst hf
      exact j_ireturn (bM_mv G) ⟨Nat.le_refl 0, Nat.le_refl 0⟩ rfl dX5_ceded_22
    · replace hf := ie h7 hf
      refine j_iload_n dX5_ceded_13 2 rfl ?_
      refine j_aload_n dX5_ceded_14 0 rfl ?_
      refine m_geti mf_97 rfl dX5_ceded_15 ?_
      refine j_icmp_lt (w32 v2) (w32 (u.1 97)) rfl rfl 23 dX5_ceded_18 (by decide) (fun h6 => ?_) (fun h6 => ?_)
      · replace hf := it h6 hf
        refine j_iload_n dX5_ceded_23 3 rfl ?_
        obtain ⟨x2, hx2, hf⟩ := ob hf
        refine j_cSr [pI v3] [] kT_v (bM_mv G) (c5_isDay v3 u hx2) wv5_isDay dv5_isDay rfl ⟨(Nat.le_of_ble_eq_true rfl), (Nat.le_of_ble_eq_true rfl)⟩ rfl (Nat.le_of_ble_eq_true rfl) dX5_ceded_24 ⟨Nat.le_refl 0, Nat.le_refl 0⟩ ?_
        refine j_if_ne (w32 x2) rfl 33 dX5_ceded_27 (by decide) (fun h5 => ?_) (fun h5 => ?_)
        · replace hf := ie h5 hf
          refine j_aload_n dX5_ceded_33 0 rfl ?_
          refine j_aload_n dX5_ceded_34 0 rfl ?_
          refine j_iload_n dX5_ceded_35 1 rfl ?_
          refine j_iload_n dX5_ceded_36 3 rfl ?_
          obtain ⟨q3, hq3, hf⟩ := ob hf
          refine j_cVr [pI v1, pI v3] [pR (some G.1)] kT_v (bM_mv G) (c5_pay v1 v3 u hq3) wv5_pay dv5_pay rfl ⟨(Nat.le_of_ble_eq_true rfl), (Nat.le_of_ble_eq_true rfl)⟩ (m_recv u) rfl (Nat.le_of_ble_eq_true rfl) dX5_ceded_37 ⟨Nat.le_refl 0, Nat.le_refl 0⟩ ?_
          refine j_i2l dX5_ceded_40 ?_
          refine j_iload_n dX5_ceded_41 2 rfl ?_
          obtain ⟨x4, hx4, hf⟩ := ob hf
          refine j_cVr [pL (w32 q3.1), pI v2] [] kT_v (bM_mv G) (c5_takes (w32 q3.1) v2 q3.2 hx4) wv5_takes dv5_takes rfl ⟨(Nat.le_of_ble_eq_true rfl), (Nat.le_of_ble_eq_true rfl)⟩ (m_recv q3.2) rfl (Nat.le_of_ble_eq_true rfl) dX5_ceded_42 ⟨Nat.le_refl 0, Nat.le_refl 0⟩ ?_
          refine j_l2i dX5_ceded_45 ?_
          replace hf := Option.some.inj hf
          subst hf
          exact j_ireturn (bM_mv G) ⟨Nat.le_refl 0, Nat.le_refl 0⟩ rfl dX5_ceded_46
        · replace hf := it h5 hf
          refine j_bipush dX5_ceded_30 (by decide) ?_
          replace hf := Option.some.inj hf
          subst hf
          exact j_ireturn (bM_mv G) ⟨Nat.le_refl 0, Nat.le_refl 0⟩ rfl dX5_ceded_32
      · replace hf := ie h6 hf
        refine j_iconst dX5_ceded_21 ?_
        replace hf := Option.some.inj hf
        subst hf
        exact j_ireturn (bM_mv G) ⟨Nat.le_refl 0, Nat.le_refl 0⟩ rfl dX5_ceded_22
theorem c5_book {G : MG} {l : Launch} {r : Mu} (v1 : Int) (v2 : Int) (v3 : Int) (v5 : Int) (u : Mu) (hf : m5_book v1 v2 v3 v5 u = some r) : JM kT (bM G) (aM G) l yX5_book D5_book [pR (some G.1), pI v1, pI v2, pL v3, pI v5] u none r 0 0 := by
  refine j_met (lv0 := [(0, pR (some G.1)), (1, pI v1), (2, pI v2), (3, pL v3), (5, pI v5)]) ⟨pl_X5, rfl, rfl, (Nat.le_of_ble_eq_true rfl), rfl⟩ ?_
  unfold m5_book at hf
  refine j_aload_n dX5_book_0 0 rfl ?_
  refine m_geta mf_103 rfl dX5_book_1 ?_
  refine j_aload_n dX5_book_4 0 rfl ?_
  refine m_geti mf_102 rfl dX5_book_5 ?_
  refine j_iload_n dX5_book_8 1 rfl ?_
  obtain ⟨u1, hu1, hf⟩ := ob hf
  refine m_iast mr_103 hu1 dX5_book_9 ?_
  refine j_aload_n dX5_book_10 0 rfl ?_
  refine m_geta mf_104 rfl dX5_book_11 ?_
  refine j_aload_n dX5_book_14 0 rfl ?_
  refine m_geti mf_102 rfl dX5_book_15 ?_
  refine j_iload_n dX5_book_18 2 rfl ?_
  obtain ⟨u2, hu2, hf⟩ := ob hf
  refine m_iast mr_104 hu2 dX5_book_19 ?_
  refine j_aload_n dX5_book_20 0 rfl ?_
  refine m_geta mf_105 rfl dX5_book_21 ?_
  refine j_aload_n dX5_book_24 0 rfl ?_
  refine m_geti mf_102 rfl dX5_book_25 ?_
  refine j_lload_n dX5_book_28 3 rfl ?_
  refine j_l2i dX5_book_29 ?_
  obtain ⟨u3, hu3, hf⟩ := ob hf
  refine m_iast mr_105 hu3 dX5_book_30 ?_
  refine j_aload_n dX5_book_31 0 rfl ?_
  refine m_geta mf_106 rfl dX5_book_32 ?_
  refine j_aload_n dX5_book_35 0 rfl ?_
  refine m_geti mf_102 rfl dX5_book_36 ?_
  refine j_iload dX5_book_39 4 rfl ?_
  obtain ⟨u4, hu4, hf⟩ := ob hf
  refine m_iast mr_106 hu4 dX5_book_41 ?_
  refine j_aload_n dX5_book_42 0 rfl ?_
  refine j_dup dX5_book_43 rfl ?_
  refine m_geti mf_102 rfl dX5_book_44 ?_
  refine j_iconst dX5_book_47 ?_
  refine j_iadd dX5_book_48 ?_
  obtain ⟨u5, hu5, hf⟩ := ob hf
  refine m_puti_ hu5 mf_102 mfw_102 rfl dX5_book_49 ?_
  replace hf := Option.some.inj hf
  subst hf
  exact j_return (bM_mv G) ⟨Nat.le_refl 0, Nat.le_refl 0⟩ rfl dX5_book_52
theorem c5_close_b85 {G : MG} {l : Launch} {a : List PV} {r : Int × Mu} {Kf : Int × Mu → Option (Int × Mu)} {v1 : Int} (kh : Int → Int → Mu → Option (Int × Mu)) (hkh : ∀ (z2 : Int) (z3 : Int) (zu : Mu), ((kh z2 z3 zu).bind Kf = some r) → J5 G l D5_close a (some (pI r.1)) r.2 zu 22 [(0, pR (some G.1)), (1, pI v1), (2, pI z2), (3, pI z3)] []) (hK0 : ∀ q : Int × Mu, Kf q = some r → J5 G l D5_close a (some (pI r.1)) r.2 q.2 93 [(0, pR (some G.1)), (1, pI v1), (2, pI q.1)] []) (v3 : Int) (s0 : Int) (s1 : Int) (u : Mu) (hf : (m5_close_b85 kh v1 v3 s0 s1 u).bind Kf = some r) : J5 G l D5_close a (some (pI r.1)) r.2 u 85 [(0, pR (some G.1)), (1, pI v1), (3, pI v3)] [pI s1, pI s0] := by
  unfold m5_close_b85 at hf
  refine j_iadd dX5_close_85 ?_
  refine j_istore_n dX5_close_86 [(2, pI (s0 + s1)), (0, pR (some G.1)), (1, pI v1), (3, pI v3)] (Nat.le_of_ble_eq_true rfl) rfl ?_
  refine j_iinc dX5_close_87 3 rfl [(3, pI (v3 + 1)), (2, pI (s0 + s1)), (0, pR (some G.1)), (1, pI v1)] (Nat.le_of_ble_eq_true rfl) rfl ?_
  refine j_goto 22 dX5_close_90 (by decide) ?_
  exact j_sub [2, 3, 1, 0] _ rfl (hkh (s0 + s1) (v3 + 1) u hf)
theorem c5_close_b57 {G : MG} {l : Launch} {a : List PV} {r : Int × Mu} {Kf : Int × Mu → Option (Int × Mu)} {v1 : Int} (kh : Int → Int → Mu → Option (Int × Mu)) (hkh : ∀ (z2 : Int) (z3 : Int) (zu : Mu), ((kh z2 z3 zu).bind Kf = some r) → J5 G l D5_close a (some (pI r.1)) r.2 zu 22 [(0, pR (some G.1)), (1, pI v1), (2, pI z2), (3, pI z3)] []) (hK0 : ∀ q : Int × Mu, Kf q = some r → J5 G l D5_close a (some (pI r.1)) r.2 q.2 93 [(0, pR (some G.1)), (1, pI v1), (2, pI q.1)] []) (v3 : Int) (v4 : Int) (s0 : Int) (s1 : Int) (u : Mu) (hf : (m5_close_b57 kh v1 v3 v4 s0 s1 u).bind Kf = some r) : J5 G l D5_close a (some (pI r.1)) r.2 u 57 [(0, pR (some G.1)), (1, pI v1), (3, pI v3), (4, pL v4)] [pI s1, pI s0] := by
  unfold m5_close_b57 at hf
  refine j_iadd dX5_close_57 ?_
  refine j_istore_n dX5_close_58 [(2, pI (s0 + s1)), (0, pR (some G.1)), (1, pI v1), (3, pI v3), (4, pL v4)] (Nat.le_of_ble_eq_true rfl) rfl ?_
  refine j_iload_n dX5_close_59 0 rfl ?_
  refine j_lload dX5_close_60 4 rfl ?_
  refine j_aload_n dX5_close_62 1 rfl ?_
  refine j_lload dX5_close_63 4 rfl ?_
  refine j_iconst dX5_close_65 ?_
  obtain ⟨x1, hx1, hf⟩ := obb hf
  refine j_cVr [pL v4, pI (-1)] [pL v4, pI (s0 + s1)] kT_v (bM_mv G) (c5_takes v4 (-1) u hx1) wv5_takes dv5_takes rfl ⟨(Nat.le_of_ble_eq_true rfl), (Nat.le_of_ble_eq_true rfl)⟩ (m_recv u) rfl (Nat.le_of_ble_eq_true rfl) dX5_close_66 ⟨Nat.le_refl 0, Nat.le_refl 0⟩ ?_
  refine j_lsub dX5_close_69 ?_
  refine j_aload_n dX5_close_70 1 rfl ?_
  refine m_geta mf_108 rfl dX5_close_71 ?_
  refine j_iload_n dX5_close_74 3 rfl ?_
  obtain ⟨x2, hx2, hf⟩ := obb hf
  refine m_lald mr_108 hx2 dX5_close_75 ?_
  refine j_lc_eq 84 dX5_close_76 dX5_close_77 (by decide) (fun h3 => ?_) (fun h3 => ?_)
  · replace hf := itb h3 hf
    refine j_iconst dX5_close_84 ?_
    exact j_sub [1, 2, 3] _ rfl (c5_close_b85 (kh) hkh hK0 v3 (s0 + s1) 0 u hf)
  · replace hf := ieb h3 hf
    refine j_iconst dX5_close_80 ?_
    refine j_goto 85 dX5_close_81 (by decide) ?_
    exact j_sub [1, 2, 3] _ rfl (c5_close_b85 (kh) hkh hK0 v3 (s0 + s1) 2 u hf)
theorem c5_close_l22 {G : MG} {l : Launch} {a : List PV} {r : Int × Mu} {Kf : Int × Mu → Option (Int × Mu)} (v1 : Int) (hK0 : ∀ q : Int × Mu, Kf q = some r → J5 G l D5_close a (some (pI r.1)) r.2 q.2 93 [(0, pR (some G.1)), (1, pI v1), (2, pI q.1)] []) : ∀ (n : Nat) (v2 : Int) (v3 : Int) (u : Mu), ((m5_close_l22 v1 n v2 v3 u).bind Kf = some r) → J5 G l D5_close a (some (pI r.1)) r.2 u 22 [(0, pR (some G.1)), (1, pI v1), (2, pI v2), (3, pI v3)] [] := by
  intro n
  induction n with
  | zero => intro v2 v3 u hf; exact onb hf
  | succ n ih =>
    intro v2 v3 u hf
    unfold m5_close_l22 at hf
    refine j_iload_n dX5_close_22 3 rfl ?_
    refine j_aload_n dX5_close_23 0 rfl ?_
    refine m_geti mf_87 rfl dX5_close_24 ?_
    refine j_icmp_gt (w32 v3) (w32 (u.1 87)) rfl rfl 93 dX5_close_27 (by decide) (fun h4 => ?_) (fun h4 => ?_)
    · replace hf := itb h4 hf
      exact j_sub [0, 1, 2] _ rfl (hK0 (v2, u) hf)
    · replace hf := ieb h4 hf
      refine j_aload_n dX5_close_30 0 rfl ?_
      refine j_iload_n dX5_close_31 3 rfl ?_
      refine j_iload_n dX5_close_32 1 rfl ?_
      obtain ⟨q1, hq1, hf⟩ := obb hf
      refine j_cVr [pI v3, pI v1] [] kT_v (bM_mv G) (c5_pay v3 v1 u hq1) wv5_pay dv5_pay rfl ⟨(Nat.le_of_ble_eq_true rfl), (Nat.le_of_ble_eq_true rfl)⟩ (m_recv u) rfl (Nat.le_of_ble_eq_true rfl) dX5_close_33 ⟨Nat.le_refl 0, Nat.le_refl 0⟩ ?_
      refine j_i2l dX5_close_36 ?_
      refine j_lstore dX5_close_37 [(4, pL (w32 q1.1)), (0, pR (some G.1)), (1, pI v1), (2, pI v2), (3, pI v3)] (Nat.le_of_ble_eq_true rfl) rfl ?_
      refine j_iload_n dX5_close_39 3 rfl ?_
      refine j_lload dX5_close_40 0 rfl ?_
      refine j_aload_n dX5_close_42 1 rfl ?_
      refine m_geta mf_107 rfl dX5_close_43 ?_
      refine j_iload_n dX5_close_46 4 rfl ?_
      obtain ⟨x2, hx2, hf⟩ := obb hf
      refine m_lald mr_107 hx2 dX5_close_47 ?_
      refine j_lc_eq 56 dX5_close_48 dX5_close_49 (by decide) (fun h3 => ?_) (fun h3 => ?_)
      · replace hf := itb h3 hf
        refine j_iconst dX5_close_56 ?_
        exact j_sub [1, 2, 4, 0] _ rfl (c5_close_b57 (m5_close_l22 v1 n) ih hK0 v3 (w32 q1.1) v2 0 q1.2 hf)
      · replace hf := ieb h3 hf
        refine j_iconst dX5_close_52 ?_
        refine j_goto 57 dX5_close_53 (by decide) ?_
        exact j_sub [1, 2, 4, 0] _ rfl (c5_close_b57 (m5_close_l22 v1 n) ih hK0 v3 (w32 q1.1) v2 2 q1.2 hf)
theorem c5_close_b196 {G : MG} {l : Launch} {a : List PV} {r : Int × Mu} {Kf : Mu → Option (Int × Mu)} {v1 : Int} {v2 : Int} (kh : Int → Mu → Option (Mu)) (hkh : ∀ (z3 : Int) (zu : Mu), ((kh z3 zu).bind Kf = some r) → J5 G l D5_close a (some (pI r.1)) r.2 zu 115 [(0, pR (some G.1)), (1, pI v1), (2, pI v2), (3, pI z3)] []) (hK0 : ∀ q : Mu, Kf q = some r → J5 G l D5_close a (some (pI r.1)) r.2 q 254 [(2, pI v2)] []) (v3 : Int) (v6 : Int) (u : Mu) (hf : (m5_close_b196 kh v1 v2 v3 v6 u).bind Kf = some r) : J5 G l D5_close a (some (pI r.1)) r.2 u 196 [(0, pR (some G.1)), (1, pI v1), (2, pI v2), (3, pI v3), (6, pL v6)] [] := by
  unfold m5_close_b196 at hf
  refine j_lload dX5_close_196 4 rfl ?_
  refine j_aload_n dX5_close_198 0 rfl ?_
  refine m_geta mf_108 rfl dX5_close_199 ?_
  refine j_iload_n dX5_close_202 3 rfl ?_
  obtain ⟨x1, hx1, hf⟩ := obb hf
  refine m_lald mr_108 hx1 dX5_close_203 ?_
  refine j_lc_eq 248 dX5_close_204 dX5_close_205 (by decide) (fun h7 => ?_) (fun h7 => ?_)
  · replace hf := itb h7 hf
    refine j_iinc dX5_close_248 3 rfl [(3, pI (v3 + 1)), (0, pR (some G.1)), (1, pI v1), (2, pI v2), (6, pL v6)] (Nat.le_of_ble_eq_true rfl) rfl ?_
    refine j_goto 115 dX5_close_251 (by decide) ?_
    exact j_sub [1, 2, 3, 0] _ rfl (hkh (v3 + 1) u hf)
  · replace hf := ieb h7 hf
    refine j_aload_n dX5_close_208 0 rfl ?_
    refine j_iload_n dX5_close_209 3 rfl ?_
    refine j_iconst dX5_close_210 ?_
    refine j_lload dX5_close_211 4 rfl ?_
    refine j_aload_n dX5_close_213 0 rfl ?_
    refine m_geta mf_108 rfl dX5_close_214 ?_
    refine j_iload_n dX5_close_217 3 rfl ?_
    obtain ⟨x2, hx2, hf⟩ := obb hf
    refine m_lald mr_108 hx2 dX5_close_218 ?_
    refine j_lsub dX5_close_219 ?_
    refine j_iload_n dX5_close_220 1 rfl ?_
    obtain ⟨u3, hu3, hf⟩ := obb hf
    refine j_cVv [pI v3, pI 2, pL (v6 - x2), pI v1] [] kT_v (bM_mv G) (c5_book v3 2 (v6 - x2) v1 u hu3) wv5_book dv5_book rfl ⟨(Nat.le_of_ble_eq_true rfl), (Nat.le_of_ble_eq_true rfl)⟩ (m_recv u) rfl (Nat.le_of_ble_eq_true rfl) dX5_close_221 ⟨Nat.le_refl 0, Nat.le_refl 0⟩ ?_
    refine j_aload_n dX5_close_224 0 rfl ?_
    refine j_iload_n dX5_close_225 3 rfl ?_
    refine j_iconst dX5_close_226 ?_
    refine j_aload_n dX5_close_227 0 rfl ?_
    refine m_geta mf_108 rfl dX5_close_228 ?_
    refine j_iload_n dX5_close_231 3 rfl ?_
    obtain ⟨x4, hx4, hf⟩ := obb hf
    refine m_lald mr_108 hx4 dX5_close_232 ?_
    refine j_lload dX5_close_233 4 rfl ?_
    refine j_lsub dX5_close_235 ?_
    refine j_iload_n dX5_close_236 1 rfl ?_
    obtain ⟨u5, hu5, hf⟩ := obb hf
    refine j_cVv [pI v3, pI 3, pL (x4 - v6), pI v1] [] kT_v (bM_mv G) (c5_book v3 3 (x4 - v6) v1 u3 hu5) wv5_book dv5_book rfl ⟨(Nat.le_of_ble_eq_true rfl), (Nat.le_of_ble_eq_true rfl)⟩ (m_recv u3) rfl (Nat.le_of_ble_eq_true rfl) dX5_close_237 ⟨Nat.le_refl 0, Nat.le_refl 0⟩ ?_
    refine j_aload_n dX5_close_240 0 rfl ?_
    refine m_geta mf_108 rfl dX5_close_241 ?_
    refine j_iload_n dX5_close_244 3 rfl ?_
    refine j_lload dX5_close_245 4 rfl ?_
    obtain ⟨u6, hu6, hf⟩ := obb hf
    refine m_last mr_108 hu6 dX5_close_247 ?_
    refine j_iinc dX5_close_248 3 rfl [(3, pI (v3 + 1)), (0, pR (some G.1)), (1, pI v1), (2, pI v2), (6, pL v6)] (Nat.le_of_ble_eq_true rfl) rfl ?_
    refine j_goto 115 dX5_close_251 (by decide) ?_
    exact j_sub [1, 2, 3, 0] _ rfl (hkh (v3 + 1) u6 hf)
theorem c5_close_l115 {G : MG} {l : Launch} {a : List PV} {r : Int × Mu} {Kf : Mu → Option (Int × Mu)} (v1 : Int) (v2 : Int) (hK0 : ∀ q : Mu, Kf q = some r → J5 G l D5_close a (some (pI r.1)) r.2 q 254 [(2, pI v2)] []) : ∀ (n : Nat) (v3 : Int) (u : Mu), ((m5_close_l115 v1 v2 n v3 u).bind Kf = some r) → J5 G l D5_close a (some (pI r.1)) r.2 u 115 [(0, pR (some G.1)), (1, pI v1), (2, pI v2), (3, pI v3)] [] := by
  intro n
  induction n with
  | zero => intro v3 u hf; exact onb hf
  | succ n ih =>
    intro v3 u hf
    unfold m5_close_l115 at hf
    refine j_iload_n dX5_close_115 3 rfl ?_
    refine j_aload_n dX5_close_116 0 rfl ?_
    refine m_geti mf_87 rfl dX5_close_117 ?_
    refine j_icmp_gt (w32 v3) (w32 (u.1 87)) rfl rfl 254 dX5_close_120 (by decide) (fun h10 => ?_) (fun h10 => ?_)
    · replace hf := itb h10 hf
      exact j_sub [2] _ rfl (hK0 u hf)
    · replace hf := ieb h10 hf
      refine j_aload_n dX5_close_123 0 rfl ?_
      refine j_iload_n dX5_close_124 3 rfl ?_
      refine j_iload_n dX5_close_125 1 rfl ?_
      obtain ⟨q1, hq1, hf⟩ := obb hf
      refine j_cVr [pI v3, pI v1] [] kT_v (bM_mv G) (c5_pay v3 v1 u hq1) wv5_pay dv5_pay rfl ⟨(Nat.le_of_ble_eq_true rfl), (Nat.le_of_ble_eq_true rfl)⟩ (m_recv u) rfl (Nat.le_of_ble_eq_true rfl) dX5_close_126 ⟨Nat.le_refl 0, Nat.le_refl 0⟩ ?_
      refine j_i2l dX5_close_129 ?_
      refine j_lstore dX5_close_130 [(4, pL (w32 q1.1)), (0, pR (some G.1)), (1, pI v1), (2, pI v2), (3, pI v3)] (Nat.le_of_ble_eq_true rfl) rfl ?_
      refine j_lload dX5_close_132 0 rfl ?_
      refine j_aload_n dX5_close_134 1 rfl ?_
      refine j_lload dX5_close_135 0 rfl ?_
      refine j_iconst dX5_close_137 ?_
      obtain ⟨x2, hx2, hf⟩ := obb hf
      refine j_cVr [pL (w32 q1.1), pI (-1)] [pL (w32 q1.1)] kT_v (bM_mv G) (c5_takes (w32 q1.1) (-1) q1.2 hx2) wv5_takes dv5_takes rfl ⟨(Nat.le_of_ble_eq_true rfl), (Nat.le_of_ble_eq_true rfl)⟩ (m_recv q1.2) rfl (Nat.le_of_ble_eq_true rfl) dX5_close_138 ⟨Nat.le_refl 0, Nat.le_refl 0⟩ ?_
      refine j_lsub dX5_close_141 ?_
      refine j_lstore dX5_close_142 [(6, pL ((w32 q1.1) - x2)), (4, pL (w32 q1.1)), (0, pR (some G.1)), (1, pI v1), (2, pI v2), (3, pI v3)] (Nat.le_of_ble_eq_true rfl) rfl ?_
      refine j_lload dX5_close_144 1 rfl ?_
      refine j_aload_n dX5_close_146 2 rfl ?_
      refine m_geta mf_107 rfl dX5_close_147 ?_
      refine j_iload_n dX5_close_150 5 rfl ?_
      obtain ⟨x3, hx3, hf⟩ := obb hf
      refine m_lald mr_107 hx3 dX5_close_151 ?_
      refine j_lc_eq 196 dX5_close_152 dX5_close_153 (by decide) (fun h9 => ?_) (fun h9 => ?_)
      · replace hf := itb h9 hf
        exact j_sub [2, 3, 4, 5, 0] _ rfl (c5_close_b196 (m5_close_l115 v1 v2 n) ih hK0 v3 ((w32 q1.1) - x2) q1.2 hf)
      · replace hf := ieb h9 hf
        refine j_aload_n dX5_close_156 2 rfl ?_
        refine j_iload_n dX5_close_157 5 rfl ?_
        refine j_iconst dX5_close_158 ?_
        refine j_aload_n dX5_close_159 2 rfl ?_
        refine m_geta mf_107 rfl dX5_close_160 ?_
        refine j_iload_n dX5_close_163 5 rfl ?_
        obtain ⟨x4, hx4, hf⟩ := obb hf
        refine m_lald mr_107 hx4 dX5_close_164 ?_
        refine j_lload dX5_close_165 1 rfl ?_
        refine j_lsub dX5_close_167 ?_
        refine j_iload_n dX5_close_168 3 rfl ?_
        obtain ⟨u5, hu5, hf⟩ := obb hf
        refine j_cVv [pI v3, pI 0, pL (x4 - (w32 q1.1)), pI v1] [] kT_v (bM_mv G) (c5_book v3 0 (x4 - (w32 q1.1)) v1 q1.2 hu5) wv5_book dv5_book rfl ⟨(Nat.le_of_ble_eq_true rfl), (Nat.le_of_ble_eq_true rfl)⟩ (m_recv q1.2) rfl (Nat.le_of_ble_eq_true rfl) dX5_close_169 ⟨Nat.le_refl 0, Nat.le_refl 0⟩ ?_
        refine j_aload_n dX5_close_172 2 rfl ?_
        refine j_iload_n dX5_close_173 5 rfl ?_
        refine j_iconst dX5_close_174 ?_
        refine j_lload dX5_close_175 1 rfl ?_
        refine j_aload_n dX5_close_177 2 rfl ?_
        refine m_geta mf_107 rfl dX5_close_178 ?_
        refine j_iload_n dX5_close_181 5 rfl ?_
        obtain ⟨x6, hx6, hf⟩ := obb hf
        refine m_lald mr_107 hx6 dX5_close_182 ?_
        refine j_lsub dX5_close_183 ?_
        refine j_iload_n dX5_close_184 3 rfl ?_
        obtain ⟨u7, hu7, hf⟩ := obb hf
        refine j_cVv [pI v3, pI 1, pL ((w32 q1.1) - x6), pI v1] [] kT_v (bM_mv G) (c5_book v3 1 ((w32 q1.1) - x6) v1 u5 hu7) wv5_book dv5_book rfl ⟨(Nat.le_of_ble_eq_true rfl), (Nat.le_of_ble_eq_true rfl)⟩ (m_recv u5) rfl (Nat.le_of_ble_eq_true rfl) dX5_close_185 ⟨Nat.le_refl 0, Nat.le_refl 0⟩ ?_
        refine j_aload_n dX5_close_188 2 rfl ?_
        refine m_geta mf_107 rfl dX5_close_189 ?_
        refine j_iload_n dX5_close_192 5 rfl ?_
        refine j_lload dX5_close_193 1 rfl ?_
        obtain ⟨u8, hu8, hf⟩ := obb hf
        refine m_last mr_107 hu8 dX5_close_195 ?_
        exact j_sub [2, 3, 4, 5, 0] _ rfl (c5_close_b196 (m5_close_l115 v1 v2 n) ih hK0 v3 ((w32 q1.1) - x2) u8 hf)
theorem c5_close {G : MG} {l : Launch} {r : Int × Mu} (v1 : Int) (u : Mu) (hf : m5_close v1 u = some r) : JM kT (bM G) (aM G) l yX5_close D5_close [pR (some G.1), pI v1] u (some (pI r.1)) r.2 0 0 := by
  refine j_met (lv0 := [(0, pR (some G.1)), (1, pI v1)]) ⟨pl_X5, rfl, rfl, (Nat.le_of_ble_eq_true rfl), rfl⟩ ?_
  unfold m5_close at hf
  refine j_iload_n dX5_close_0 1 rfl ?_
  obtain ⟨x1, hx1, hf⟩ := ob hf
  refine j_cSr [pI v1] [] kT_v (bM_mv G) (c5_isDay v1 u hx1) wv5_isDay dv5_isDay rfl ⟨(Nat.le_of_ble_eq_true rfl), (Nat.le_of_ble_eq_true rfl)⟩ rfl (Nat.le_of_ble_eq_true rfl) dX5_close_1 ⟨Nat.le_refl 0, Nat.le_refl 0⟩ ?_
  refine j_if_eq (w32 x1) rfl 15 dX5_close_4 (by decide) (fun h7 => ?_) (fun h7 => ?_)
  · replace hf := it h7 hf
    refine j_bipush dX5_close_15 (by decide) ?_
    replace hf := Option.some.inj hf
    subst hf
    exact j_ireturn (bM_mv G) ⟨Nat.le_refl 0, Nat.le_refl 0⟩ rfl dX5_close_17
  · replace hf := ie h7 hf
    refine j_iload_n dX5_close_7 1 rfl ?_
    refine j_aload_n dX5_close_8 0 rfl ?_
    refine m_geti mf_101 rfl dX5_close_9 ?_
    refine j_icmp_ge (w32 v1) (w32 (u.1 101)) rfl rfl 18 dX5_close_12 (by decide) (fun h6 => ?_) (fun h6 => ?_)
    · replace hf := it h6 hf
      refine j_iconst dX5_close_18 ?_
      refine j_istore_n dX5_close_19 [(2, pI 0), (0, pR (some G.1)), (1, pI v1)] (Nat.le_of_ble_eq_true rfl) rfl ?_
      refine j_iconst dX5_close_20 ?_
      refine j_istore_n dX5_close_21 [(3, pI 1), (2, pI 0), (0, pR (some G.1)), (1, pI v1)] (Nat.le_of_ble_eq_true rfl) rfl ?_
      refine j_sub [2, 3, 1, 0] _ rfl (c5_close_l22 v1 ?_ NN 0 1 u hf)
      · intro q2 hf
        refine j_aload_n dX5_close_93 0 rfl ?_
        refine m_geti mf_102 rfl dX5_close_94 ?_
        refine j_iload_n dX5_close_97 2 rfl ?_
        refine j_iadd dX5_close_98 ?_
        refine j_sipush dX5_close_99 (by decide) ?_
        refine j_icmp_le (w32 ((q2.2.1 102) + q2.1)) 400 rfl rfl 108 dX5_close_102 (by decide) (fun h5 => ?_) (fun h5 => ?_)
        · replace hf := it h5 hf
          refine j_aload_n dX5_close_108 0 rfl ?_
          refine j_iload_n dX5_close_109 1 rfl ?_
          obtain ⟨u3, hu3, hf⟩ := ob hf
          refine m_puti_ hu3 mf_101 mfw_101 rfl dX5_close_110 ?_
          refine j_iconst dX5_close_113 ?_
          refine j_istore_n dX5_close_114 [(3, pI 1), (0, pR (some G.1)), (1, pI v1), (2, pI q2.1)] (Nat.le_of_ble_eq_true rfl) rfl ?_
          refine j_sub [1, 2, 3, 0] _ rfl (c5_close_l115 v1 q2.1 ?_ NN 1 u3 hf)
          · intro q4 hf
            refine j_iload_n dX5_close_254 0 rfl ?_
            replace hf := Option.some.inj hf
            subst hf
            exact j_ireturn (bM_mv G) ⟨Nat.le_refl 0, Nat.le_refl 0⟩ rfl dX5_close_255
        · replace hf := ie h5 hf
          refine j_bipush dX5_close_105 (by decide) ?_
          replace hf := Option.some.inj hf
          subst hf
          exact j_ireturn (bM_mv G) ⟨Nat.le_refl 0, Nat.le_refl 0⟩ rfl dX5_close_107
    · replace hf := ie h6 hf
      refine j_bipush dX5_close_15 (by decide) ?_
      replace hf := Option.some.inj hf
      subst hf
      exact j_ireturn (bM_mv G) ⟨Nat.le_refl 0, Nat.le_refl 0⟩ rfl dX5_close_17
theorem c5_row {G : MG} {l : Launch} {r : Int} (v1 : Int) (v2 : Int) (u : Mu) (hf : m5_row v1 v2 u = some r) : JM kT (bM G) (aM G) l yX5_row D5_row [pR (some G.1), pI v1, pI v2] u (some (pI r)) u 0 0 := by
  refine j_met (lv0 := [(0, pR (some G.1)), (1, pI v1), (2, pI v2)]) ⟨pl_X5, rfl, rfl, (Nat.le_of_ble_eq_true rfl), rfl⟩ ?_
  unfold m5_row at hf
  refine j_iload_n dX5_row_0 1 rfl ?_
  refine j_if_lt (w32 v1) rfl 12 dX5_row_1 (by decide) (fun h10 => ?_) (fun h10 => ?_)
  · replace hf := it h10 hf
    refine j_iconst dX5_row_12 ?_
    replace hf := Option.some.inj hf
    subst hf
    exact j_ireturn (bM_mv G) ⟨Nat.le_refl 0, Nat.le_refl 0⟩ rfl dX5_row_13
  · replace hf := ie h10 hf
    refine j_iload_n dX5_row_4 1 rfl ?_
    refine j_aload_n dX5_row_5 0 rfl ?_
    refine m_geti mf_102 rfl dX5_row_6 ?_
    refine j_icmp_lt (w32 v1) (w32 (u.1 102)) rfl rfl 14 dX5_row_9 (by decide) (fun h9 => ?_) (fun h9 => ?_)
    · replace hf := it h9 hf
      refine j_iload_n dX5_row_14 2 rfl ?_
      refine j_if_ne (w32 v2) rfl 27 dX5_row_15 (by decide) (fun h8 => ?_) (fun h8 => ?_)
      · replace hf := ie h8 hf
        refine j_iload_n dX5_row_27 2 rfl ?_
        refine j_iconst dX5_row_28 ?_
        refine j_icmp_ne (w32 v2) 1 rfl rfl 41 dX5_row_29 (by decide) (fun h6 => ?_) (fun h6 => ?_)
        · replace hf := ie h6 hf
          refine j_iload_n dX5_row_41 2 rfl ?_
          refine j_iconst dX5_row_42 ?_
          refine j_icmp_ne (w32 v2) 2 rfl rfl 55 dX5_row_43 (by decide) (fun h4 => ?_) (fun h4 => ?_)
          · replace hf := ie h4 hf
            refine j_iload_n dX5_row_55 2 rfl ?_
            refine j_iconst dX5_row_56 ?_
            refine j_icmp_ne (w32 v2) 3 rfl rfl 69 dX5_row_57 (by decide) (fun h2 => ?_) (fun h2 => ?_)
            · replace hf := ie h2 hf
              refine j_bipush dX5_row_69 (by decide) ?_
              replace hf := Option.some.inj hf
              subst hf
              exact j_ireturn (bM_mv G) ⟨Nat.le_refl 0, Nat.le_refl 0⟩ rfl dX5_row_71
            · replace hf := it h2 hf
              refine j_aload_n dX5_row_60 0 rfl ?_
              refine m_geta mf_106 rfl dX5_row_61 ?_
              refine j_iload_n dX5_row_64 1 rfl ?_
              obtain ⟨x1, hx1, hf⟩ := ob hf
              refine m_iald mr_106 hx1 dX5_row_65 ?_
              refine j_goto 71 dX5_row_66 (by decide) ?_
              replace hf := Option.some.inj hf
              subst hf
              exact j_ireturn (bM_mv G) ⟨Nat.le_refl 0, Nat.le_refl 0⟩ rfl dX5_row_71
          · replace hf := it h4 hf
            refine j_aload_n dX5_row_46 0 rfl ?_
            refine m_geta mf_105 rfl dX5_row_47 ?_
            refine j_iload_n dX5_row_50 1 rfl ?_
            obtain ⟨x3, hx3, hf⟩ := ob hf
            refine m_iald mr_105 hx3 dX5_row_51 ?_
            refine j_goto 71 dX5_row_52 (by decide) ?_
            replace hf := Option.some.inj hf
            subst hf
            exact j_ireturn (bM_mv G) ⟨Nat.le_refl 0, Nat.le_refl 0⟩ rfl dX5_row_71
        · replace hf := it h6 hf
          refine j_aload_n dX5_row_32 0 rfl ?_
          refine m_geta mf_104 rfl dX5_row_33 ?_
          refine j_iload_n dX5_row_36 1 rfl ?_
          obtain ⟨x5, hx5, hf⟩ := ob hf
          refine m_iald mr_104 hx5 dX5_row_37 ?_
          refine j_goto 71 dX5_row_38 (by decide) ?_
          replace hf := Option.some.inj hf
          subst hf
          exact j_ireturn (bM_mv G) ⟨Nat.le_refl 0, Nat.le_refl 0⟩ rfl dX5_row_71
      · replace hf := it h8 hf
        refine j_aload_n dX5_row_18 0 rfl ?_
        refine m_geta mf_103 rfl dX5_row_19 ?_
        refine j_iload_n dX5_row_22 1 rfl ?_
        obtain ⟨x7, hx7, hf⟩ := ob hf
        refine m_iald mr_103 hx7 dX5_row_23 ?_
        refine j_goto 71 dX5_row_24 (by decide) ?_
        replace hf := Option.some.inj hf
        subst hf
        exact j_ireturn (bM_mv G) ⟨Nat.le_refl 0, Nat.le_refl 0⟩ rfl dX5_row_71
    · replace hf := ie h9 hf
      refine j_iconst dX5_row_12 ?_
      replace hf := Option.some.inj hf
      subst hf
      exact j_ireturn (bM_mv G) ⟨Nat.le_refl 0, Nat.le_refl 0⟩ rfl dX5_row_13
theorem c5_balance_b30 {G : MG} {l : Launch} {a : List PV} {r : Int} {Kf : Int → Option (Int)} {v1 : Int} {u : Mu} (kh : Int → Int → Option (Int)) (hkh : ∀ (z2 : Int) (z4 : Int), ((kh z2 z4).bind Kf = some r) → J5 G l D5_balance a (some (pL r)) u u 5 [(0, pR (some G.1)), (1, pI v1), (2, pL z2), (4, pI z4)] []) (hK0 : ∀ q : Int, Kf q = some r → J5 G l D5_balance a (some (pL r)) u u 47 [(2, pL q)] []) (v2 : Int) (v4 : Int) (hf : (m5_balance_b30 kh v1 v2 v4 u).bind Kf = some r) : J5 G l D5_balance a (some (pL r)) u u 30 [(0, pR (some G.1)), (1, pI v1), (2, pL v2), (4, pI v4)] [] := by
  unfold m5_balance_b30 at hf
  refine j_lload_n dX5_balance_30 2 rfl ?_
  refine j_aload_n dX5_balance_31 0 rfl ?_
  refine m_geta mf_105 rfl dX5_balance_32 ?_
  refine j_iload dX5_balance_35 3 rfl ?_
  obtain ⟨x1, hx1, hf⟩ := obb hf
  refine m_iald mr_105 hx1 dX5_balance_37 ?_
  refine j_i2l dX5_balance_38 ?_
  refine j_ladd dX5_balance_39 ?_
  refine j_lstore_n dX5_balance_40 [(2, pL (v2 + (w32 x1))), (0, pR (some G.1)), (1, pI v1), (4, pI v4)] (Nat.le_of_ble_eq_true rfl) rfl ?_
  refine j_iinc dX5_balance_41 3 rfl [(4, pI (v4 + 1)), (2, pL (v2 + (w32 x1))), (0, pR (some G.1)), (1, pI v1)] (Nat.le_of_ble_eq_true rfl) rfl ?_
  refine j_goto 5 dX5_balance_44 (by decide) ?_
  exact j_sub [2, 3, 1, 0] _ rfl (hkh (v2 + (w32 x1)) (v4 + 1) hf)
theorem c5_balance_l5 {G : MG} {l : Launch} {a : List PV} {r : Int} {Kf : Int → Option (Int)} (v1 : Int) (u : Mu) (hK0 : ∀ q : Int, Kf q = some r → J5 G l D5_balance a (some (pL r)) u u 47 [(2, pL q)] []) : ∀ (n : Nat) (v2 : Int) (v4 : Int), ((m5_balance_l5 v1 u n v2 v4).bind Kf = some r) → J5 G l D5_balance a (some (pL r)) u u 5 [(0, pR (some G.1)), (1, pI v1), (2, pL v2), (4, pI v4)] [] := by
  intro n
  induction n with
  | zero => intro v2 v4 hf; exact onb hf
  | succ n ih =>
    intro v2 v4 hf
    unfold m5_balance_l5 at hf
    refine j_iload dX5_balance_5 3 rfl ?_
    refine j_aload_n dX5_balance_7 0 rfl ?_
    refine m_geti mf_102 rfl dX5_balance_8 ?_
    refine j_icmp_ge (w32 v4) (w32 (u.1 102)) rfl rfl 47 dX5_balance_11 (by decide) (fun h4 => ?_) (fun h4 => ?_)
    · replace hf := itb h4 hf
      exact j_sub [2] _ rfl (hK0 v2 hf)
    · replace hf := ieb h4 hf
      refine j_iload_n dX5_balance_14 1 rfl ?_
      refine j_iconst dX5_balance_15 ?_
      refine j_icmp_eq (w32 v1) (-1) rfl rfl 30 dX5_balance_16 (by decide) (fun h3 => ?_) (fun h3 => ?_)
      · replace hf := itb h3 hf
        exact j_sub [0, 1, 2, 3] _ rfl (c5_balance_b30 (m5_balance_l5 v1 u n) ih hK0 v2 v4 hf)
      · replace hf := ieb h3 hf
        refine j_aload_n dX5_balance_19 0 rfl ?_
        refine m_geta mf_104 rfl dX5_balance_20 ?_
        refine j_iload dX5_balance_23 3 rfl ?_
        obtain ⟨x1, hx1, hf⟩ := obb hf
        refine m_iald mr_104 hx1 dX5_balance_25 ?_
        refine j_iload_n dX5_balance_26 1 rfl ?_
        refine j_icmp_ne (w32 x1) (w32 v1) rfl rfl 41 dX5_balance_27 (by decide) (fun h2 => ?_) (fun h2 => ?_)
        · replace hf := ieb h2 hf
          refine j_iinc dX5_balance_41 3 rfl [(4, pI (v4 + 1)), (0, pR (some G.1)), (1, pI v1), (2, pL v2)] (Nat.le_of_ble_eq_true rfl) rfl ?_
          refine j_goto 5 dX5_balance_44 (by decide) ?_
          exact j_sub [1, 2, 3, 0] _ rfl (ih v2 (v4 + 1) hf)
        · replace hf := itb h2 hf
          exact j_sub [0, 1, 2, 3] _ rfl (c5_balance_b30 (m5_balance_l5 v1 u n) ih hK0 v2 v4 hf)
theorem c5_balance {G : MG} {l : Launch} {r : Int} (v1 : Int) (u : Mu) (hf : m5_balance v1 u = some r) : JM kT (bM G) (aM G) l yX5_balance D5_balance [pR (some G.1), pI v1] u (some (pL r)) u 0 0 := by
  refine j_met (lv0 := [(0, pR (some G.1)), (1, pI v1)]) ⟨pl_X5, rfl, rfl, (Nat.le_of_ble_eq_true rfl), rfl⟩ ?_
  unfold m5_balance at hf
  refine j_lconst (z := 0) dX5_balance_0 rfl ?_
  refine j_lstore_n dX5_balance_1 [(2, pL 0), (0, pR (some G.1)), (1, pI v1)] (Nat.le_of_ble_eq_true rfl) rfl ?_
  refine j_iconst dX5_balance_2 ?_
  refine j_istore dX5_balance_3 [(4, pI 0), (2, pL 0), (0, pR (some G.1)), (1, pI v1)] (Nat.le_of_ble_eq_true rfl) rfl ?_
  refine j_sub [2, 3, 1, 0] _ rfl (c5_balance_l5 v1 u ?_ NN 0 0 hf)
  · intro q1 hf
    refine j_lload_n dX5_balance_47 0 rfl ?_
    replace hf := Option.some.inj hf
    subst hf
    exact j_lreturn (bM_mv G) ⟨Nat.le_refl 0, Nat.le_refl 0⟩ rfl dX5_balance_48
theorem c5_paidAt_l18 {G : MG} {l : Launch} {a : List PV} {r : Int × Mu} {Kf : Int × Mu → Option (Int × Mu)} (v1 : Int) (v5 : Int) (hK0 : ∀ q : Int × Mu, Kf q = some r → J5 G l D5_paidAt a (some (pL r.1)) r.2 q.2 45 [(3, pL q.1)] []) : ∀ (n : Nat) (v3 : Int) (v6 : Int) (u : Mu), ((m5_paidAt_l18 v1 v5 n v3 v6 u).bind Kf = some r) → J5 G l D5_paidAt a (some (pL r.1)) r.2 u 18 [(0, pR (some G.1)), (1, pI v1), (3, pL v3), (5, pI v5), (6, pI v6)] [] := by
  intro n
  induction n with
  | zero => intro v3 v6 u hf; exact onb hf
  | succ n ih =>
    intro v3 v6 u hf
    unfold m5_paidAt_l18 at hf
    refine j_iload dX5_paidAt_18 4 rfl ?_
    refine j_aload_n dX5_paidAt_20 0 rfl ?_
    refine m_geti mf_81 rfl dX5_paidAt_21 ?_
    refine j_icmp_gt (w32 v6) (w32 (u.1 81)) rfl rfl 45 dX5_paidAt_24 (by decide) (fun h2 => ?_) (fun h2 => ?_)
    · replace hf := itb h2 hf
      exact j_sub [2] _ rfl (hK0 (v3, u) hf)
    · replace hf := ieb h2 hf
      refine j_lload_n dX5_paidAt_27 2 rfl ?_
      refine j_aload_n dX5_paidAt_28 0 rfl ?_
      refine j_iload dX5_paidAt_29 4 rfl ?_
      refine j_iload_n dX5_paidAt_31 1 rfl ?_
      refine j_iload dX5_paidAt_32 3 rfl ?_
      obtain ⟨q1, hq1, hf⟩ := obb hf
      refine j_cVr [pI v6, pI v1, pI v5] [pL v3] kT_v (bM_mv G) (c5_used v6 v1 v5 u hq1) wv5_used dv5_used rfl ⟨(Nat.le_of_ble_eq_true rfl), (Nat.le_of_ble_eq_true rfl)⟩ (m_recv u) rfl (Nat.le_of_ble_eq_true rfl) dX5_paidAt_34 ⟨Nat.le_refl 0, Nat.le_refl 0⟩ ?_
      refine j_ladd dX5_paidAt_37 ?_
      refine j_lstore_n dX5_paidAt_38 [(3, pL (v3 + q1.1)), (0, pR (some G.1)), (1, pI v1), (5, pI v5), (6, pI v6)] (Nat.le_of_ble_eq_true rfl) rfl ?_
      refine j_iinc dX5_paidAt_39 4 rfl [(6, pI (v6 + 1)), (3, pL (v3 + q1.1)), (0, pR (some G.1)), (1, pI v1), (5, pI v5)] (Nat.le_of_ble_eq_true rfl) rfl ?_
      refine j_goto 18 dX5_paidAt_42 (by decide) ?_
      exact j_sub [2, 3, 1, 4, 0] _ rfl (ih (v3 + q1.1) (v6 + 1) q1.2 hf)
theorem c5_paidAt {G : MG} {l : Launch} {r : Int × Mu} (v1 : Int) (v2 : Int) (u : Mu) (hf : m5_paidAt v1 v2 u = some r) : JM kT (bM G) (aM G) l yX5_paidAt D5_paidAt [pR (some G.1), pI v1, pI v2] u (some (pL r.1)) r.2 0 0 := by
  refine j_met (lv0 := [(0, pR (some G.1)), (1, pI v1), (2, pI v2)]) ⟨pl_X5, rfl, rfl, (Nat.le_of_ble_eq_true rfl), rfl⟩ ?_
  unfold m5_paidAt at hf
  refine j_lconst (z := 0) dX5_paidAt_0 rfl ?_
  refine j_lstore_n dX5_paidAt_1 [(3, pL 0), (0, pR (some G.1)), (1, pI v1), (2, pI v2)] (Nat.le_of_ble_eq_true rfl) rfl ?_
  refine j_iload_n dX5_paidAt_2 2 rfl ?_
  refine j_iload_n dX5_paidAt_3 3 rfl ?_
  refine j_iadd dX5_paidAt_4 ?_
  refine j_iconst dX5_paidAt_5 ?_
  refine j_iadd dX5_paidAt_6 ?_
  refine j_sipush dX5_paidAt_7 (by decide) ?_
  refine j_imul dX5_paidAt_10 ?_
  refine j_iconst dX5_paidAt_11 ?_
  refine j_isub dX5_paidAt_12 ?_
  refine j_istore dX5_paidAt_13 [(5, pI ((((v1 + v2) + 1) * 365) - 1)), (3, pL 0), (0, pR (some G.1)), (1, pI v1), (2, pI v2)] (Nat.le_of_ble_eq_true rfl) rfl ?_
  refine j_iconst dX5_paidAt_15 ?_
  refine j_istore dX5_paidAt_16 [(6, pI 1), (5, pI ((((v1 + v2) + 1) * 365) - 1)), (3, pL 0), (0, pR (some G.1)), (1, pI v1), (2, pI v2)] (Nat.le_of_ble_eq_true rfl) rfl ?_
  refine j_sub [3, 4, 2, 1, 0] _ rfl (c5_paidAt_l18 v1 ((((v1 + v2) + 1) * 365) - 1) ?_ NN 0 1 u hf)
  · intro q1 hf
    refine j_lload_n dX5_paidAt_45 0 rfl ?_
    replace hf := Option.some.inj hf
    subst hf
    exact j_lreturn (bM_mv G) ⟨Nat.le_refl 0, Nat.le_refl 0⟩ rfl dX5_paidAt_46
theorem c5_paid {G : MG} {l : Launch} {r : Int × Mu} (v1 : Int) (v2 : Int) (u : Mu) (hf : m5_paid v1 v2 u = some r) : JM kT (bM G) (aM G) l yX5_paid D5_paid [pR (some G.1), pI v1, pI v2] u (some (pL r.1)) r.2 0 0 := by
  refine j_met (lv0 := [(0, pR (some G.1)), (1, pI v1), (2, pI v2)]) ⟨pl_X5, rfl, rfl, (Nat.le_of_ble_eq_true rfl), rfl⟩ ?_
  unfold m5_paid at hf
  refine j_iload_n dX5_paid_0 1 rfl ?_
  refine j_if_lt (w32 v1) rfl 28 dX5_paid_1 (by decide) (fun h6 => ?_) (fun h6 => ?_)
  · replace hf := it h6 hf
    refine j_ldc2 (z := (-2)) q2608 (by decide) dX5_paid_28 ?_
    refine j_goto 40 dX5_paid_31 (by decide) ?_
    replace hf := Option.some.inj hf
    subst hf
    exact j_lreturn (bM_mv G) ⟨Nat.le_refl 0, Nat.le_refl 0⟩ rfl dX5_paid_40
  · replace hf := ie h6 hf
    refine j_iload_n dX5_paid_4 1 rfl ?_
    refine j_bipush dX5_paid_5 (by decide) ?_
    refine j_icmp_gt (w32 v1) 9 rfl rfl 28 dX5_paid_7 (by decide) (fun h5 => ?_) (fun h5 => ?_)
    · replace hf := it h5 hf
      refine j_ldc2 (z := (-2)) q2608 (by decide) dX5_paid_28 ?_
      refine j_goto 40 dX5_paid_31 (by decide) ?_
      replace hf := Option.some.inj hf
      subst hf
      exact j_lreturn (bM_mv G) ⟨Nat.le_refl 0, Nat.le_refl 0⟩ rfl dX5_paid_40
    · replace hf := ie h5 hf
      refine j_iload_n dX5_paid_10 2 rfl ?_
      refine j_if_lt (w32 v2) rfl 28 dX5_paid_11 (by decide) (fun h4 => ?_) (fun h4 => ?_)
      · replace hf := it h4 hf
        refine j_ldc2 (z := (-2)) q2608 (by decide) dX5_paid_28 ?_
        refine j_goto 40 dX5_paid_31 (by decide) ?_
        replace hf := Option.some.inj hf
        subst hf
        exact j_lreturn (bM_mv G) ⟨Nat.le_refl 0, Nat.le_refl 0⟩ rfl dX5_paid_40
      · replace hf := ie h4 hf
        refine j_iload_n dX5_paid_14 2 rfl ?_
        refine j_bipush dX5_paid_15 (by decide) ?_
        refine j_icmp_gt (w32 v2) 9 rfl rfl 28 dX5_paid_17 (by decide) (fun h3 => ?_) (fun h3 => ?_)
        · replace hf := it h3 hf
          refine j_ldc2 (z := (-2)) q2608 (by decide) dX5_paid_28 ?_
          refine j_goto 40 dX5_paid_31 (by decide) ?_
          replace hf := Option.some.inj hf
          subst hf
          exact j_lreturn (bM_mv G) ⟨Nat.le_refl 0, Nat.le_refl 0⟩ rfl dX5_paid_40
        · replace hf := ie h3 hf
          refine j_iload_n dX5_paid_20 1 rfl ?_
          refine j_iload_n dX5_paid_21 2 rfl ?_
          refine j_iadd dX5_paid_22 ?_
          refine j_bipush dX5_paid_23 (by decide) ?_
          refine j_icmp_le (w32 (v1 + v2)) 26 rfl rfl 34 dX5_paid_25 (by decide) (fun h2 => ?_) (fun h2 => ?_)
          · replace hf := it h2 hf
            refine j_aload_n dX5_paid_34 0 rfl ?_
            refine j_iload_n dX5_paid_35 1 rfl ?_
            refine j_iload_n dX5_paid_36 2 rfl ?_
            obtain ⟨q1, hq1, hf⟩ := ob hf
            refine j_cVr [pI v1, pI v2] [] kT_v (bM_mv G) (c5_paidAt v1 v2 u hq1) wv5_paidAt dv5_paidAt rfl ⟨(Nat.le_of_ble_eq_true rfl), (Nat.le_of_ble_eq_true rfl)⟩ (m_recv u) rfl (Nat.le_of_ble_eq_true rfl) dX5_paid_37 ⟨Nat.le_refl 0, Nat.le_refl 0⟩ ?_
            replace hf := Option.some.inj hf
            subst hf
            exact j_lreturn (bM_mv G) ⟨Nat.le_refl 0, Nat.le_refl 0⟩ rfl dX5_paid_40
          · replace hf := ie h2 hf
            refine j_ldc2 (z := (-2)) q2608 (by decide) dX5_paid_28 ?_
            refine j_goto 40 dX5_paid_31 (by decide) ?_
            replace hf := Option.some.inj hf
            subst hf
            exact j_lreturn (bM_mv G) ⟨Nat.le_refl 0, Nat.le_refl 0⟩ rfl dX5_paid_40
theorem c5_end_l52 {G : MG} {l : Launch} {a : List PV} {r : Int × Mu} {Kf : Int × Int × Mu → Option (Int × Mu)} (v2 : Int) (v3 : Int) (v5 : Int) (hK0 : ∀ q : Int × Int × Mu, Kf q = some r → J5 G l D5_end a (some (pL r.1)) r.2 q.2.2 97 [(0, pR (some G.1)), (2, pI v2), (3, pL v3), (5, pI v5), (6, pL q.1), (8, pL q.2.1)] []) : ∀ (n : Nat) (v6 : Int) (v8 : Int) (v10 : Int) (u : Mu), ((m5_end_l52 v2 v3 v5 n v6 v8 v10 u).bind Kf = some r) → J5 G l D5_end a (some (pL r.1)) r.2 u 52 [(0, pR (some G.1)), (2, pI v2), (3, pL v3), (5, pI v5), (6, pL v6), (8, pL v8), (10, pI v10)] [] := by
  intro n
  induction n with
  | zero => intro v6 v8 v10 u hf; exact onb hf
  | succ n ih =>
    intro v6 v8 v10 u hf
    unfold m5_end_l52 at hf
    refine j_iload dX5_end_52 6 rfl ?_
    refine j_iload_n dX5_end_54 1 rfl ?_
    refine j_iload dX5_end_55 3 rfl ?_
    refine j_isub dX5_end_57 ?_
    refine j_iconst dX5_end_58 ?_
    refine j_isub dX5_end_59 ?_
    refine j_icmp_gt (w32 v10) (w32 ((v2 - v5) - 1)) rfl rfl 97 dX5_end_60 (by decide) (fun h3 => ?_) (fun h3 => ?_)
    · replace hf := itb h3 hf
      exact j_sub [0, 1, 2, 3, 4, 5] _ rfl (hK0 (v6, v8, u) hf)
    · replace hf := ieb h3 hf
      refine j_lload dX5_end_63 4 rfl ?_
      refine j_aload_n dX5_end_65 0 rfl ?_
      refine j_iload dX5_end_66 6 rfl ?_
      refine j_iload dX5_end_68 3 rfl ?_
      refine j_iconst dX5_end_70 ?_
      refine j_iadd dX5_end_71 ?_
      obtain ⟨q1, hq1, hf⟩ := obb hf
      refine j_cVr [pI v10, pI (v5 + 1)] [pL v6] kT_v (bM_mv G) (c5_paidAt v10 (v5 + 1) u hq1) wv5_paidAt dv5_paidAt rfl ⟨(Nat.le_of_ble_eq_true rfl), (Nat.le_of_ble_eq_true rfl)⟩ (m_recv u) rfl (Nat.le_of_ble_eq_true rfl) dX5_end_72 ⟨Nat.le_refl 0, Nat.le_refl 0⟩ ?_
      refine j_ladd dX5_end_75 ?_
      refine j_lstore dX5_end_76 [(6, pL (v6 + q1.1)), (0, pR (some G.1)), (2, pI v2), (3, pL v3), (5, pI v5), (8, pL v8), (10, pI v10)] (Nat.le_of_ble_eq_true rfl) rfl ?_
      refine j_lload dX5_end_78 5 rfl ?_
      refine j_aload_n dX5_end_80 1 rfl ?_
      refine j_iload dX5_end_81 6 rfl ?_
      refine j_iload dX5_end_83 4 rfl ?_
      obtain ⟨q2, hq2, hf⟩ := obb hf
      refine j_cVr [pI v10, pI v5] [pL v8] kT_v (bM_mv G) (c5_paidAt v10 v5 q1.2 hq2) wv5_paidAt dv5_paidAt rfl ⟨(Nat.le_of_ble_eq_true rfl), (Nat.le_of_ble_eq_true rfl)⟩ (m_recv q1.2) rfl (Nat.le_of_ble_eq_true rfl) dX5_end_85 ⟨Nat.le_refl 0, Nat.le_refl 0⟩ ?_
      refine j_ladd dX5_end_88 ?_
      refine j_lstore dX5_end_89 [(8, pL (v8 + q2.1)), (6, pL (v6 + q1.1)), (0, pR (some G.1)), (2, pI v2), (3, pL v3), (5, pI v5), (10, pI v10)] (Nat.le_of_ble_eq_true rfl) rfl ?_
      refine j_iinc dX5_end_91 6 rfl [(10, pI (v10 + 1)), (8, pL (v8 + q2.1)), (6, pL (v6 + q1.1)), (0, pR (some G.1)), (2, pI v2), (3, pL v3), (5, pI v5)] (Nat.le_of_ble_eq_true rfl) rfl ?_
      refine j_goto 52 dX5_end_94 (by decide) ?_
      exact j_sub [3, 4, 5, 6, 2, 1, 0] _ rfl (ih (v6 + q1.1) (v8 + q2.1) (v10 + 1) q2.2 hf)
theorem c5_end_l37 {G : MG} {l : Launch} {a : List PV} {r : Int × Mu} {Kf : Int × Mu → Option (Int × Mu)} (v2 : Int) (hK0 : ∀ q : Int × Mu, Kf q = some r → J5 G l D5_end a (some (pL r.1)) r.2 q.2 128 [(3, pL q.1)] []) : ∀ (n : Nat) (v3 : Int) (v5 : Int) (u : Mu), ((m5_end_l37 v2 n v3 v5 u).bind Kf = some r) → J5 G l D5_end a (some (pL r.1)) r.2 u 37 [(0, pR (some G.1)), (2, pI v2), (3, pL v3), (5, pI v5)] [] := by
  intro n
  induction n with
  | zero => intro v3 v5 u hf; exact onb hf
  | succ n ih =>
    intro v3 v5 u hf
    unfold m5_end_l37 at hf
    refine j_iload dX5_end_37 3 rfl ?_
    refine j_iload_n dX5_end_39 1 rfl ?_
    refine j_icmp_ge (w32 v5) (w32 v2) rfl rfl 128 dX5_end_40 (by decide) (fun h5 => ?_) (fun h5 => ?_)
    · replace hf := itb h5 hf
      exact j_sub [2] _ rfl (hK0 (v3, u) hf)
    · replace hf := ieb h5 hf
      refine j_lconst (z := 0) dX5_end_43 rfl ?_
      refine j_lstore dX5_end_44 [(6, pL 0), (0, pR (some G.1)), (2, pI v2), (3, pL v3), (5, pI v5)] (Nat.le_of_ble_eq_true rfl) rfl ?_
      refine j_lconst (z := 0) dX5_end_46 rfl ?_
      refine j_lstore dX5_end_47 [(8, pL 0), (6, pL 0), (0, pR (some G.1)), (2, pI v2), (3, pL v3), (5, pI v5)] (Nat.le_of_ble_eq_true rfl) rfl ?_
      refine j_iconst dX5_end_49 ?_
      refine j_istore dX5_end_50 [(10, pI 0), (8, pL 0), (6, pL 0), (0, pR (some G.1)), (2, pI v2), (3, pL v3), (5, pI v5)] (Nat.le_of_ble_eq_true rfl) rfl ?_
      replace hf := oba hf
      refine j_sub [3, 4, 5, 6, 2, 1, 0] _ rfl (c5_end_l52 v2 v3 v5 ?_ NN 0 0 0 u hf)
      · intro q1 hf
        refine j_lload dX5_end_97 5 rfl ?_
        refine j_lconst (z := 0) dX5_end_99 rfl ?_
        refine j_lc_ne 108 dX5_end_100 dX5_end_101 (by decide) (fun h4 => ?_) (fun h4 => ?_)
        · replace hf := ieb h4 hf
          refine j_lload_n dX5_end_108 2 rfl ?_
          refine j_lload dX5_end_109 4 rfl ?_
          refine j_lmul dX5_end_111 ?_
          refine j_lload dX5_end_112 5 rfl ?_
          rcases Decidable.em (w64 q1.2.1 = 0) with h2 | h2
          · exact onb (itb h2 hf)
          · replace hf := ieb h2 hf
            refine j_ldiv dX5_end_114 h2 ?_
            refine j_ldc2 (z := 2000000000) q2651 (by decide) dX5_end_115 ?_
            obtain ⟨x3, hx3, hf⟩ := obb hf
            refine j_cSr [pL (div64 (v3 * q1.1) q1.2.1), pL 2000000000] [] kT_v (bM_mv G) (c5_lesser (div64 (v3 * q1.1) q1.2.1) 2000000000 q1.2.2 hx3) wv5_lesser dv5_lesser rfl ⟨(Nat.le_of_ble_eq_true rfl), (Nat.le_of_ble_eq_true rfl)⟩ rfl (Nat.le_of_ble_eq_true rfl) dX5_end_118 ⟨Nat.le_refl 0, Nat.le_refl 0⟩ ?_
            refine j_lstore_n dX5_end_121 [(3, pL x3), (0, pR (some G.1)), (2, pI v2), (5, pI v5), (6, pL q1.1), (8, pL q1.2.1)] (Nat.le_of_ble_eq_true rfl) rfl ?_
            refine j_iinc dX5_end_122 3 rfl [(5, pI (v5 + 1)), (3, pL x3), (0, pR (some G.1)), (2, pI v2), (6, pL q1.1), (8, pL q1.2.1)] (Nat.le_of_ble_eq_true rfl) rfl ?_
            refine j_goto 37 dX5_end_125 (by decide) ?_
            exact j_sub [2, 3, 1, 0] _ rfl (ih x3 (v5 + 1) q1.2.2 hf)
        · replace hf := itb h4 hf
          refine j_lload_n dX5_end_104 2 rfl ?_
          refine j_goto 121 dX5_end_105 (by decide) ?_
          refine j_lstore_n dX5_end_121 [(3, pL v3), (0, pR (some G.1)), (2, pI v2), (5, pI v5), (6, pL q1.1), (8, pL q1.2.1)] (Nat.le_of_ble_eq_true rfl) rfl ?_
          refine j_iinc dX5_end_122 3 rfl [(5, pI (v5 + 1)), (3, pL v3), (0, pR (some G.1)), (2, pI v2), (6, pL q1.1), (8, pL q1.2.1)] (Nat.le_of_ble_eq_true rfl) rfl ?_
          refine j_goto 37 dX5_end_125 (by decide) ?_
          exact j_sub [2, 3, 1, 0] _ rfl (ih v3 (v5 + 1) q1.2.2 hf)
theorem c5_end {G : MG} {l : Launch} {r : Int × Mu} (v1 : Int) (v2 : Int) (u : Mu) (hf : m5_end v1 v2 u = some r) : JM kT (bM G) (aM G) l yX5_end D5_end [pR (some G.1), pI v1, pI v2] u (some (pL r.1)) r.2 0 0 := by
  refine j_met (lv0 := [(0, pR (some G.1)), (1, pI v1), (2, pI v2)]) ⟨pl_X5, rfl, rfl, (Nat.le_of_ble_eq_true rfl), rfl⟩ ?_
  unfold m5_end at hf
  refine j_iload_n dX5_end_0 2 rfl ?_
  refine j_if_lt (w32 v2) rfl 19 dX5_end_1 (by decide) (fun h6 => ?_) (fun h6 => ?_)
  · replace hf := it h6 hf
    refine j_ldc2 (z := (-2)) q2608 (by decide) dX5_end_19 ?_
    replace hf := Option.some.inj hf
    subst hf
    exact j_lreturn (bM_mv G) ⟨Nat.le_refl 0, Nat.le_refl 0⟩ rfl dX5_end_22
  · replace hf := ie h6 hf
    refine j_iload_n dX5_end_4 2 rfl ?_
    refine j_bipush dX5_end_5 (by decide) ?_
    refine j_icmp_gt (w32 v2) 9 rfl rfl 19 dX5_end_7 (by decide) (fun h5 => ?_) (fun h5 => ?_)
    · replace hf := it h5 hf
      refine j_ldc2 (z := (-2)) q2608 (by decide) dX5_end_19 ?_
      replace hf := Option.some.inj hf
      subst hf
      exact j_lreturn (bM_mv G) ⟨Nat.le_refl 0, Nat.le_refl 0⟩ rfl dX5_end_22
    · replace hf := ie h5 hf
      refine j_iload_n dX5_end_10 1 rfl ?_
      refine j_if_lt (w32 v1) rfl 19 dX5_end_11 (by decide) (fun h4 => ?_) (fun h4 => ?_)
      · replace hf := it h4 hf
        refine j_ldc2 (z := (-2)) q2608 (by decide) dX5_end_19 ?_
        replace hf := Option.some.inj hf
        subst hf
        exact j_lreturn (bM_mv G) ⟨Nat.le_refl 0, Nat.le_refl 0⟩ rfl dX5_end_22
      · replace hf := ie h4 hf
        refine j_iload_n dX5_end_14 1 rfl ?_
        refine j_iload_n dX5_end_15 2 rfl ?_
        refine j_icmp_le (w32 v1) (w32 v2) rfl rfl 23 dX5_end_16 (by decide) (fun h3 => ?_) (fun h3 => ?_)
        · replace hf := it h3 hf
          refine j_aload_n dX5_end_23 0 rfl ?_
          refine j_iload_n dX5_end_24 1 rfl ?_
          refine j_iload_n dX5_end_25 2 rfl ?_
          refine j_iload_n dX5_end_26 1 rfl ?_
          refine j_isub dX5_end_27 ?_
          obtain ⟨q1, hq1, hf⟩ := ob hf
          refine j_cVr [pI v1, pI (v2 - v1)] [] kT_v (bM_mv G) (c5_paidAt v1 (v2 - v1) u hq1) wv5_paidAt dv5_paidAt rfl ⟨(Nat.le_of_ble_eq_true rfl), (Nat.le_of_ble_eq_true rfl)⟩ (m_recv u) rfl (Nat.le_of_ble_eq_true rfl) dX5_end_28 ⟨Nat.le_refl 0, Nat.le_refl 0⟩ ?_
          refine j_lstore_n dX5_end_31 [(3, pL q1.1), (0, pR (some G.1)), (1, pI v1), (2, pI v2)] (Nat.le_of_ble_eq_true rfl) rfl ?_
          refine j_iload_n dX5_end_32 3 rfl ?_
          refine j_iload_n dX5_end_33 2 rfl ?_
          refine j_isub dX5_end_34 ?_
          refine j_istore dX5_end_35 [(5, pI (v2 - v1)), (3, pL q1.1), (0, pR (some G.1)), (1, pI v1), (2, pI v2)] (Nat.le_of_ble_eq_true rfl) rfl ?_
          refine j_sub [2, 4, 1, 0] _ rfl (c5_end_l37 v2 ?_ NN q1.1 (v2 - v1) q1.2 hf)
          · intro q2 hf
            refine j_lload_n dX5_end_128 0 rfl ?_
            replace hf := Option.some.inj hf
            subst hf
            exact j_lreturn (bM_mv G) ⟨Nat.le_refl 0, Nat.le_refl 0⟩ rfl dX5_end_129
        · replace hf := ie h3 hf
          refine j_ldc2 (z := (-2)) q2608 (by decide) dX5_end_19 ?_
          replace hf := Option.some.inj hf
          subst hf
          exact j_lreturn (bM_mv G) ⟨Nat.le_refl 0, Nat.le_refl 0⟩ rfl dX5_end_22
theorem c5_size {G : MG} {l : Launch} {r : Int × Mu} (v1 : Int) (v2 : Int) (u : Mu) (hf : m5_size v1 v2 u = some r) : JM kT (bM G) (aM G) l yX5_size D5_size [pR (some G.1), pI v1, pI v2] u (some (pI r.1)) r.2 0 0 := by
  refine j_met (lv0 := [(0, pR (some G.1)), (1, pI v1), (2, pI v2)]) ⟨pl_X5, rfl, rfl, (Nat.le_of_ble_eq_true rfl), rfl⟩ ?_
  unfold m5_size at hf
  refine j_iload_n dX5_size_0 1 rfl ?_
  refine j_if_lt (w32 v1) rfl 21 dX5_size_1 (by decide) (fun h10 => ?_) (fun h10 => ?_)
  · replace hf := it h10 hf
    refine j_bipush dX5_size_21 (by decide) ?_
    replace hf := Option.some.inj hf
    subst hf
    exact j_ireturn (bM_mv G) ⟨Nat.le_refl 0, Nat.le_refl 0⟩ rfl dX5_size_23
  · replace hf := ie h10 hf
    refine j_iload_n dX5_size_4 1 rfl ?_
    refine j_sipush dX5_size_5 (by decide) ?_
    refine j_icmp_gt (w32 v1) 400 rfl rfl 21 dX5_size_8 (by decide) (fun h9 => ?_) (fun h9 => ?_)
    · replace hf := it h9 hf
      refine j_bipush dX5_size_21 (by decide) ?_
      replace hf := Option.some.inj hf
      subst hf
      exact j_ireturn (bM_mv G) ⟨Nat.le_refl 0, Nat.le_refl 0⟩ rfl dX5_size_23
    · replace hf := ie h9 hf
      refine j_iload_n dX5_size_11 2 rfl ?_
      refine j_if_lt (w32 v2) rfl 21 dX5_size_12 (by decide) (fun h8 => ?_) (fun h8 => ?_)
      · replace hf := it h8 hf
        refine j_bipush dX5_size_21 (by decide) ?_
        replace hf := Option.some.inj hf
        subst hf
        exact j_ireturn (bM_mv G) ⟨Nat.le_refl 0, Nat.le_refl 0⟩ rfl dX5_size_23
      · replace hf := ie h8 hf
        refine j_iload_n dX5_size_15 2 rfl ?_
        refine j_bipush dX5_size_16 (by decide) ?_
        refine j_icmp_le (w32 v2) 100 rfl rfl 24 dX5_size_18 (by decide) (fun h7 => ?_) (fun h7 => ?_)
        · replace hf := it h7 hf
          refine j_aload_n dX5_size_24 0 rfl ?_
          refine m_geti mf_111 rfl dX5_size_25 ?_
          refine j_aload_n dX5_size_28 0 rfl ?_
          refine m_geta mf_109 rfl dX5_size_29 ?_
          refine j_iload_n dX5_size_32 1 rfl ?_
          obtain ⟨x1, hx1, hf⟩ := ob hf
          refine m_iald mr_109 hx1 dX5_size_33 ?_
          refine j_isub dX5_size_34 ?_
          refine j_iload_n dX5_size_35 2 rfl ?_
          refine j_iadd dX5_size_36 ?_
          refine j_sipush dX5_size_37 (by decide) ?_
          refine j_icmp_le (w32 (((u.1 111) - x1) + v2)) 200 rfl rfl 46 dX5_size_40 (by decide) (fun h6 => ?_) (fun h6 => ?_)
          · replace hf := it h6 hf
            refine j_aload_n dX5_size_46 0 rfl ?_
            refine m_geta mf_109 rfl dX5_size_47 ?_
            refine j_iload_n dX5_size_50 1 rfl ?_
            obtain ⟨x2, hx2, hf⟩ := ob hf
            refine m_iald mr_109 hx2 dX5_size_51 ?_
            refine j_istore_n dX5_size_52 [(3, pI x2), (0, pR (some G.1)), (1, pI v1), (2, pI v2)] (Nat.le_of_ble_eq_true rfl) rfl ?_
            refine j_aload_n dX5_size_53 1 rfl ?_
            refine j_dup dX5_size_54 rfl ?_
            refine m_geti mf_111 rfl dX5_size_55 ?_
            refine j_iload_n dX5_size_58 3 rfl ?_
            refine j_iload_n dX5_size_59 0 rfl ?_
            refine j_isub dX5_size_60 ?_
            refine j_iadd dX5_size_61 ?_
            obtain ⟨u3, hu3, hf⟩ := ob hf
            refine m_puti_ hu3 mf_111 mfw_111 rfl dX5_size_62 ?_
            refine j_aload_n dX5_size_65 1 rfl ?_
            refine m_geta mf_109 rfl dX5_size_66 ?_
            refine j_iload_n dX5_size_69 2 rfl ?_
            refine j_iload_n dX5_size_70 3 rfl ?_
            obtain ⟨u4, hu4, hf⟩ := ob hf
            refine m_iast mr_109 hu4 dX5_size_71 ?_
            refine j_aload_n dX5_size_72 1 rfl ?_
            refine j_iconst dX5_size_73 ?_
            obtain ⟨u5, hu5, hf⟩ := ob hf
            refine m_putz_ hu5 ⟨rfl, rfl⟩ mf_115 mfw_115 rfl dX5_size_74 ?_
            refine j_iload_n dX5_size_77 0 rfl ?_
            replace hf := Option.some.inj hf
            subst hf
            exact j_ireturn (bM_mv G) ⟨Nat.le_refl 0, Nat.le_refl 0⟩ rfl dX5_size_78
          · replace hf := ie h6 hf
            refine j_bipush dX5_size_43 (by decide) ?_
            replace hf := Option.some.inj hf
            subst hf
            exact j_ireturn (bM_mv G) ⟨Nat.le_refl 0, Nat.le_refl 0⟩ rfl dX5_size_45
        · replace hf := ie h7 hf
          refine j_bipush dX5_size_21 (by decide) ?_
          replace hf := Option.some.inj hf
          subst hf
          exact j_ireturn (bM_mv G) ⟨Nat.le_refl 0, Nat.le_refl 0⟩ rfl dX5_size_23
theorem c5_count {G : MG} {l : Launch} {r : Int × Mu} (v1 : Int) (v2 : Int) (u : Mu) (hf : m5_count v1 v2 u = some r) : JM kT (bM G) (aM G) l yX5_count D5_count [pR (some G.1), pI v1, pI v2] u (some (pI r.1)) r.2 0 0 := by
  refine j_met (lv0 := [(0, pR (some G.1)), (1, pI v1), (2, pI v2)]) ⟨pl_X5, rfl, rfl, (Nat.le_of_ble_eq_true rfl), rfl⟩ ?_
  unfold m5_count at hf
  refine j_iload_n dX5_count_0 1 rfl ?_
  refine j_if_lt (w32 v1) rfl 20 dX5_count_1 (by decide) (fun h7 => ?_) (fun h7 => ?_)
  · replace hf := it h7 hf
    refine j_bipush dX5_count_20 (by decide) ?_
    replace hf := Option.some.inj hf
    subst hf
    exact j_ireturn (bM_mv G) ⟨Nat.le_refl 0, Nat.le_refl 0⟩ rfl dX5_count_22
  · replace hf := ie h7 hf
    refine j_iload_n dX5_count_4 1 rfl ?_
    refine j_iconst dX5_count_5 ?_
    refine j_icmp_gt (w32 v1) 4 rfl rfl 20 dX5_count_6 (by decide) (fun h6 => ?_) (fun h6 => ?_)
    · replace hf := it h6 hf
      refine j_bipush dX5_count_20 (by decide) ?_
      replace hf := Option.some.inj hf
      subst hf
      exact j_ireturn (bM_mv G) ⟨Nat.le_refl 0, Nat.le_refl 0⟩ rfl dX5_count_22
    · replace hf := ie h6 hf
      refine j_iload_n dX5_count_9 2 rfl ?_
      refine j_if_lt (w32 v2) rfl 20 dX5_count_10 (by decide) (fun h5 => ?_) (fun h5 => ?_)
      · replace hf := it h5 hf
        refine j_bipush dX5_count_20 (by decide) ?_
        replace hf := Option.some.inj hf
        subst hf
        exact j_ireturn (bM_mv G) ⟨Nat.le_refl 0, Nat.le_refl 0⟩ rfl dX5_count_22
      · replace hf := ie h5 hf
        refine j_iload_n dX5_count_13 2 rfl ?_
        refine j_sipush dX5_count_14 (by decide) ?_
        refine j_icmp_le (w32 v2) 200 rfl rfl 23 dX5_count_17 (by decide) (fun h4 => ?_) (fun h4 => ?_)
        · replace hf := it h4 hf
          refine j_aload_n dX5_count_23 0 rfl ?_
          refine m_geta mf_110 rfl dX5_count_24 ?_
          refine j_iload_n dX5_count_27 1 rfl ?_
          obtain ⟨x1, hx1, hf⟩ := ob hf
          refine m_iald mr_110 hx1 dX5_count_28 ?_
          refine j_istore_n dX5_count_29 [(3, pI x1), (0, pR (some G.1)), (1, pI v1), (2, pI v2)] (Nat.le_of_ble_eq_true rfl) rfl ?_
          refine j_aload_n dX5_count_30 1 rfl ?_
          refine m_geta mf_110 rfl dX5_count_31 ?_
          refine j_iload_n dX5_count_34 2 rfl ?_
          refine j_iload_n dX5_count_35 3 rfl ?_
          obtain ⟨u2, hu2, hf⟩ := ob hf
          refine m_iast mr_110 hu2 dX5_count_36 ?_
          refine j_aload_n dX5_count_37 1 rfl ?_
          refine j_iconst dX5_count_38 ?_
          obtain ⟨u3, hu3, hf⟩ := ob hf
          refine m_putz_ hu3 ⟨rfl, rfl⟩ mf_115 mfw_115 rfl dX5_count_39 ?_
          refine j_iload_n dX5_count_42 0 rfl ?_
          replace hf := Option.some.inj hf
          subst hf
          exact j_ireturn (bM_mv G) ⟨Nat.le_refl 0, Nat.le_refl 0⟩ rfl dX5_count_43
        · replace hf := ie h4 hf
          refine j_bipush dX5_count_20 (by decide) ?_
          replace hf := Option.some.inj hf
          subst hf
          exact j_ireturn (bM_mv G) ⟨Nat.le_refl 0, Nat.le_refl 0⟩ rfl dX5_count_22
theorem c5_findMasses_b36 {G : MG} {l : Launch} {a : List PV} {r : Mu} {Kf : Mu → Option (Mu)} (kh : Int → Mu → Option (Mu)) (hkh : ∀ (z1 : Int) (zu : Mu), ((kh z1 zu).bind Kf = some r) → J5 G l D5_findMasses a none r zu 15 [(0, pR (some G.1)), (1, pI z1)] []) (hK0 : ∀ q : Mu, Kf q = some r → J5 G l D5_findMasses a none r q 50 [(0, pR (some G.1))] []) (v1 : Int) (s1 : Int) (s2 : Int) (u : Mu) (hf : (m5_findMasses_b36 kh v1 s1 s2 u).bind Kf = some r) : J5 G l D5_findMasses a none r u 36 [(0, pR (some G.1)), (1, pI v1)] [pL s2, pI s1, pR (some (G.2.1 113))] := by
  unfold m5_findMasses_b36 at hf
  obtain ⟨u1, hu1, hf⟩ := obb hf
  refine m_last mr_113 hu1 dX5_findMasses_36 ?_
  refine j_aload_n dX5_findMasses_37 0 rfl ?_
  refine m_geta mf_112 rfl dX5_findMasses_38 ?_
  refine j_iload_n dX5_findMasses_41 1 rfl ?_
  refine j_lconst (z := 0) dX5_findMasses_42 rfl ?_
  obtain ⟨u2, hu2, hf⟩ := obb hf
  refine m_last mr_112 hu2 dX5_findMasses_43 ?_
  refine j_iinc dX5_findMasses_44 1 rfl [(1, pI (v1 + 1)), (0, pR (some G.1))] (Nat.le_of_ble_eq_true rfl) rfl ?_
  refine j_goto 15 dX5_findMasses_47 (by decide) ?_
  exact j_sub [1, 0] _ rfl (hkh (v1 + 1) u2 hf)
theorem c5_findMasses_l15 {G : MG} {l : Launch} {a : List PV} {r : Mu} {Kf : Mu → Option (Mu)} (hK0 : ∀ q : Mu, Kf q = some r → J5 G l D5_findMasses a none r q 50 [(0, pR (some G.1))] []) : ∀ (n : Nat) (v1 : Int) (u : Mu), ((m5_findMasses_l15 n v1 u).bind Kf = some r) → J5 G l D5_findMasses a none r u 15 [(0, pR (some G.1)), (1, pI v1)] [] := by
  intro n
  induction n with
  | zero => intro v1 u hf; exact onb hf
  | succ n ih =>
    intro v1 u hf
    unfold m5_findMasses_l15 at hf
    refine j_iload_n dX5_findMasses_15 1 rfl ?_
    refine j_sipush dX5_findMasses_16 (by decide) ?_
    refine j_icmp_gt (w32 v1) 1600 rfl rfl 50 dX5_findMasses_19 (by decide) (fun h2 => ?_) (fun h2 => ?_)
    · replace hf := itb h2 hf
      exact j_sub [0] _ rfl (hK0 u hf)
    · replace hf := ieb h2 hf
      refine j_aload_n dX5_findMasses_22 0 rfl ?_
      refine m_geta mf_113 rfl dX5_findMasses_23 ?_
      refine j_iload_n dX5_findMasses_26 1 rfl ?_
      refine j_iload_n dX5_findMasses_27 1 rfl ?_
      refine j_if_ne (w32 v1) rfl 35 dX5_findMasses_28 (by decide) (fun h1 => ?_) (fun h1 => ?_)
      · replace hf := ieb h1 hf
        refine j_lconst (z := 0) dX5_findMasses_35 rfl ?_
        exact j_sub [0, 1] _ rfl (c5_findMasses_b36 (m5_findMasses_l15 n) ih hK0 v1 v1 0 u hf)
      · replace hf := itb h1 hf
        refine j_lconst (z := 1) dX5_findMasses_31 rfl ?_
        refine j_goto 36 dX5_findMasses_32 (by decide) ?_
        exact j_sub [0, 1] _ rfl (c5_findMasses_b36 (m5_findMasses_l15 n) ih hK0 v1 v1 1 u hf)
theorem c5_findMasses_l68 {G : MG} {l : Launch} {a : List PV} {r : Mu} {Kf : Int → Option (Mu)} (v1 : Int) (u : Mu) (hK0 : ∀ q : Int, Kf q = some r → J5 G l D5_findMasses a none r u 88 [(0, pR (some G.1)), (1, pI v1), (2, pL q)] []) : ∀ (n : Nat) (v2 : Int) (v4 : Int), ((m5_findMasses_l68 v1 u n v2 v4).bind Kf = some r) → J5 G l D5_findMasses a none r u 68 [(0, pR (some G.1)), (1, pI v1), (2, pL v2), (4, pI v4)] [] := by
  intro n
  induction n with
  | zero => intro v2 v4 hf; exact onb hf
  | succ n ih =>
    intro v2 v4 hf
    unfold m5_findMasses_l68 at hf
    refine j_iload dX5_findMasses_68 3 rfl ?_
    refine j_iconst dX5_findMasses_70 ?_
    refine j_icmp_ge (w32 v4) 4 rfl rfl 88 dX5_findMasses_71 (by decide) (fun h1 => ?_) (fun h1 => ?_)
    · replace hf := itb h1 hf
      exact j_sub [0, 1, 2] _ rfl (hK0 v2 hf)
    · replace hf := ieb h1 hf
      refine j_lload_n dX5_findMasses_74 2 rfl ?_
      refine j_aload_n dX5_findMasses_75 0 rfl ?_
      refine m_geti mf_111 rfl dX5_findMasses_76 ?_
      refine j_i2l dX5_findMasses_79 ?_
      refine j_lmul dX5_findMasses_80 ?_
      refine j_lstore_n dX5_findMasses_81 [(2, pL (v2 * (w32 (u.1 111)))), (0, pR (some G.1)), (1, pI v1), (4, pI v4)] (Nat.le_of_ble_eq_true rfl) rfl ?_
      refine j_iinc dX5_findMasses_82 3 rfl [(4, pI (v4 + 1)), (2, pL (v2 * (w32 (u.1 111)))), (0, pR (some G.1)), (1, pI v1)] (Nat.le_of_ble_eq_true rfl) rfl ?_
      refine j_goto 68 dX5_findMasses_85 (by decide) ?_
      exact j_sub [2, 3, 1, 0] _ rfl (ih (v2 * (w32 (u.1 111))) (v4 + 1) hf)
theorem c5_findMasses_l91 {G : MG} {l : Launch} {a : List PV} {r : Mu} {Kf : Mu → Option (Mu)} (v1 : Int) (v2 : Int) (hK0 : ∀ q : Mu, Kf q = some r → J5 G l D5_findMasses a none r q 126 [(0, pR (some G.1)), (1, pI v1)] []) : ∀ (n : Nat) (v4 : Int) (u : Mu), ((m5_findMasses_l91 v1 v2 n v4 u).bind Kf = some r) → J5 G l D5_findMasses a none r u 91 [(0, pR (some G.1)), (1, pI v1), (2, pL v2), (4, pI v4)] [] := by
  intro n
  induction n with
  | zero => intro v4 u hf; exact onb hf
  | succ n ih =>
    intro v4 u hf
    unfold m5_findMasses_l91 at hf
    refine j_iload dX5_findMasses_91 3 rfl ?_
    refine j_sipush dX5_findMasses_93 (by decide) ?_
    refine j_iload_n dX5_findMasses_96 1 rfl ?_
    refine j_imul dX5_findMasses_97 ?_
    refine j_icmp_gt (w32 v4) (w32 (400 * v1)) rfl rfl 126 dX5_findMasses_98 (by decide) (fun h4 => ?_) (fun h4 => ?_)
    · replace hf := itb h4 hf
      exact j_sub [0, 1] _ rfl (hK0 u hf)
    · replace hf := ieb h4 hf
      refine j_aload_n dX5_findMasses_101 0 rfl ?_
      refine m_geta mf_112 rfl dX5_findMasses_102 ?_
      refine j_iload dX5_findMasses_105 3 rfl ?_
      refine j_dup2_11 dX5_findMasses_107 rfl rfl ?_
      obtain ⟨x1, hx1, hf⟩ := obb hf
      refine m_lald mr_112 hx1 dX5_findMasses_108 ?_
      refine j_lload_n dX5_findMasses_109 2 rfl ?_
      refine j_aload_n dX5_findMasses_110 0 rfl ?_
      refine m_geta mf_113 rfl dX5_findMasses_111 ?_
      refine j_iload dX5_findMasses_114 3 rfl ?_
      obtain ⟨x2, hx2, hf⟩ := obb hf
      refine m_lald mr_113 hx2 dX5_findMasses_116 ?_
      refine j_lmul dX5_findMasses_117 ?_
      refine j_ladd dX5_findMasses_118 ?_
      obtain ⟨u3, hu3, hf⟩ := obb hf
      refine m_last mr_112 hu3 dX5_findMasses_119 ?_
      refine j_iinc dX5_findMasses_120 3 rfl [(4, pI (v4 + 1)), (0, pR (some G.1)), (1, pI v1), (2, pL v2)] (Nat.le_of_ble_eq_true rfl) rfl ?_
      refine j_goto 91 dX5_findMasses_123 (by decide) ?_
      exact j_sub [1, 2, 3, 0] _ rfl (ih (v4 + 1) u3 hf)
theorem c5_findMasses_l129 {G : MG} {l : Launch} {a : List PV} {r : Mu} {Kf : Mu → Option (Mu)} (v1 : Int) (hK0 : ∀ q : Mu, Kf q = some r → J5 G l D5_findMasses a none r q 151 [(0, pR (some G.1)), (1, pI v1)] []) : ∀ (n : Nat) (v4 : Int) (u : Mu), ((m5_findMasses_l129 v1 n v4 u).bind Kf = some r) → J5 G l D5_findMasses a none r u 129 [(0, pR (some G.1)), (1, pI v1), (4, pI v4)] [] := by
  intro n
  induction n with
  | zero => intro v4 u hf; exact onb hf
  | succ n ih =>
    intro v4 u hf
    unfold m5_findMasses_l129 at hf
    refine j_iload dX5_findMasses_129 2 rfl ?_
    refine j_sipush dX5_findMasses_131 (by decide) ?_
    refine j_icmp_gt (w32 v4) 1600 rfl rfl 151 dX5_findMasses_134 (by decide) (fun h2 => ?_) (fun h2 => ?_)
    · replace hf := itb h2 hf
      exact j_sub [0, 1] _ rfl (hK0 u hf)
    · replace hf := ieb h2 hf
      refine j_aload_n dX5_findMasses_137 0 rfl ?_
      refine m_geta mf_114 rfl dX5_findMasses_138 ?_
      refine j_iload dX5_findMasses_141 2 rfl ?_
      refine j_lconst (z := 0) dX5_findMasses_143 rfl ?_
      obtain ⟨u1, hu1, hf⟩ := obb hf
      refine m_last mr_114 hu1 dX5_findMasses_144 ?_
      refine j_iinc dX5_findMasses_145 2 rfl [(4, pI (v4 + 1)), (0, pR (some G.1)), (1, pI v1)] (Nat.le_of_ble_eq_true rfl) rfl ?_
      refine j_goto 129 dX5_findMasses_148 (by decide) ?_
      exact j_sub [1, 2, 0] _ rfl (ih (v4 + 1) u1 hf)
theorem c5_findMasses_l170 {G : MG} {l : Launch} {a : List PV} {r : Mu} {Kf : Mu → Option (Mu)} (v1 : Int) (v4 : Int) (hK0 : ∀ q : Mu, Kf q = some r → J5 G l D5_findMasses a none r q 225 [(0, pR (some G.1)), (1, pI v1), (4, pI v4)] []) : ∀ (n : Nat) (v5 : Int) (u : Mu), ((m5_findMasses_l170 v1 v4 n v5 u).bind Kf = some r) → J5 G l D5_findMasses a none r u 170 [(0, pR (some G.1)), (1, pI v1), (4, pI v4), (5, pI v5)] [] := by
  intro n
  induction n with
  | zero => intro v5 u hf; exact onb hf
  | succ n ih =>
    intro v5 u hf
    unfold m5_findMasses_l170 at hf
    refine j_iload dX5_findMasses_170 3 rfl ?_
    refine j_sipush dX5_findMasses_172 (by decide) ?_
    refine j_iload_n dX5_findMasses_175 1 rfl ?_
    refine j_imul dX5_findMasses_176 ?_
    refine j_icmp_gt (w32 v5) (w32 (400 * v1)) rfl rfl 225 dX5_findMasses_177 (by decide) (fun h7 => ?_) (fun h7 => ?_)
    · replace hf := itb h7 hf
      exact j_sub [0, 1, 2] _ rfl (hK0 u hf)
    · replace hf := ieb h7 hf
      refine j_aload_n dX5_findMasses_180 0 rfl ?_
      refine m_geta mf_109 rfl dX5_findMasses_181 ?_
      refine j_iload dX5_findMasses_184 2 rfl ?_
      obtain ⟨x1, hx1, hf⟩ := obb hf
      refine m_iald mr_109 hx1 dX5_findMasses_186 ?_
      refine j_if_le (w32 x1) rfl 225 dX5_findMasses_187 (by decide) (fun h6 => ?_) (fun h6 => ?_)
      · replace hf := itb h6 hf
        exact j_sub [0, 1, 2] _ rfl (hK0 u hf)
      · replace hf := ieb h6 hf
        refine j_aload_n dX5_findMasses_190 0 rfl ?_
        refine m_geta mf_114 rfl dX5_findMasses_191 ?_
        refine j_iload dX5_findMasses_194 3 rfl ?_
        refine j_iload dX5_findMasses_196 2 rfl ?_
        refine j_iadd dX5_findMasses_198 ?_
        refine j_dup2_11 dX5_findMasses_199 rfl rfl ?_
        obtain ⟨x2, hx2, hf⟩ := obb hf
        refine m_lald mr_114 hx2 dX5_findMasses_200 ?_
        refine j_aload_n dX5_findMasses_201 0 rfl ?_
        refine m_geta mf_109 rfl dX5_findMasses_202 ?_
        refine j_iload dX5_findMasses_205 2 rfl ?_
        obtain ⟨x3, hx3, hf⟩ := obb hf
        refine m_iald mr_109 hx3 dX5_findMasses_207 ?_
        refine j_i2l dX5_findMasses_208 ?_
        refine j_aload_n dX5_findMasses_209 0 rfl ?_
        refine m_geta mf_113 rfl dX5_findMasses_210 ?_
        refine j_iload dX5_findMasses_213 3 rfl ?_
        obtain ⟨x4, hx4, hf⟩ := obb hf
        refine m_lald mr_113 hx4 dX5_findMasses_215 ?_
        refine j_lmul dX5_findMasses_216 ?_
        refine j_ladd dX5_findMasses_217 ?_
        obtain ⟨u5, hu5, hf⟩ := obb hf
        refine m_last mr_114 hu5 dX5_findMasses_218 ?_
        refine j_iinc dX5_findMasses_219 3 rfl [(5, pI (v5 + 1)), (0, pR (some G.1)), (1, pI v1), (4, pI v4)] (Nat.le_of_ble_eq_true rfl) rfl ?_
        refine j_goto 170 dX5_findMasses_222 (by decide) ?_
        exact j_sub [1, 2, 3, 0] _ rfl (ih (v5 + 1) u5 hf)
theorem c5_findMasses_l154 {G : MG} {l : Launch} {a : List PV} {r : Mu} {Kf : Mu → Option (Mu)} (v1 : Int) (hK0 : ∀ q : Mu, Kf q = some r → J5 G l D5_findMasses a none r q 231 [(0, pR (some G.1)), (1, pI v1)] []) : ∀ (n : Nat) (v4 : Int) (u : Mu), ((m5_findMasses_l154 v1 n v4 u).bind Kf = some r) → J5 G l D5_findMasses a none r u 154 [(0, pR (some G.1)), (1, pI v1), (4, pI v4)] [] := by
  intro n
  induction n with
  | zero => intro v4 u hf; exact onb hf
  | succ n ih =>
    intro v4 u hf
    unfold m5_findMasses_l154 at hf
    refine j_iload dX5_findMasses_154 2 rfl ?_
    refine j_sipush dX5_findMasses_156 (by decide) ?_
    refine j_icmp_gt (w32 v4) 400 rfl rfl 231 dX5_findMasses_159 (by decide) (fun h3 => ?_) (fun h3 => ?_)
    · replace hf := itb h3 hf
      exact j_sub [0, 1] _ rfl (hK0 u hf)
    · replace hf := ieb h3 hf
      refine j_iload_n dX5_findMasses_162 1 rfl ?_
      refine j_iconst dX5_findMasses_163 ?_
      refine j_icmp_ge (w32 v1) 4 rfl rfl 231 dX5_findMasses_164 (by decide) (fun h2 => ?_) (fun h2 => ?_)
      · replace hf := itb h2 hf
        exact j_sub [0, 1] _ rfl (hK0 u hf)
      · replace hf := ieb h2 hf
        refine j_iconst dX5_findMasses_167 ?_
        refine j_istore dX5_findMasses_168 [(5, pI 0), (0, pR (some G.1)), (1, pI v1), (4, pI v4)] (Nat.le_of_ble_eq_true rfl) rfl ?_
        replace hf := oba hf
        refine j_sub [1, 2, 3, 0] _ rfl (c5_findMasses_l170 v1 v4 ?_ NN 0 u hf)
        · intro q1 hf
          refine j_iinc dX5_findMasses_225 2 rfl [(4, pI (v4 + 1)), (0, pR (some G.1)), (1, pI v1)] (Nat.le_of_ble_eq_true rfl) rfl ?_
          refine j_goto 154 dX5_findMasses_228 (by decide) ?_
          exact j_sub [1, 2, 0] _ rfl (ih (v4 + 1) q1 hf)
theorem c5_findMasses_l234 {G : MG} {l : Launch} {a : List PV} {r : Mu} {Kf : Mu → Option (Mu)} (v1 : Int) (hK0 : ∀ q : Mu, Kf q = some r → J5 G l D5_findMasses a none r q 262 [(0, pR (some G.1)), (1, pI v1)] []) : ∀ (n : Nat) (v4 : Int) (u : Mu), ((m5_findMasses_l234 v1 n v4 u).bind Kf = some r) → J5 G l D5_findMasses a none r u 234 [(0, pR (some G.1)), (1, pI v1), (4, pI v4)] [] := by
  intro n
  induction n with
  | zero => intro v4 u hf; exact onb hf
  | succ n ih =>
    intro v4 u hf
    unfold m5_findMasses_l234 at hf
    refine j_iload dX5_findMasses_234 2 rfl ?_
    refine j_sipush dX5_findMasses_236 (by decide) ?_
    refine j_icmp_gt (w32 v4) 1600 rfl rfl 262 dX5_findMasses_239 (by decide) (fun h3 => ?_) (fun h3 => ?_)
    · replace hf := itb h3 hf
      exact j_sub [0, 1] _ rfl (hK0 u hf)
    · replace hf := ieb h3 hf
      refine j_aload_n dX5_findMasses_242 0 rfl ?_
      refine m_geta mf_113 rfl dX5_findMasses_243 ?_
      refine j_iload dX5_findMasses_246 2 rfl ?_
      refine j_aload_n dX5_findMasses_248 0 rfl ?_
      refine m_geta mf_114 rfl dX5_findMasses_249 ?_
      refine j_iload dX5_findMasses_252 2 rfl ?_
      obtain ⟨x1, hx1, hf⟩ := obb hf
      refine m_lald mr_114 hx1 dX5_findMasses_254 ?_
      obtain ⟨u2, hu2, hf⟩ := obb hf
      refine m_last mr_113 hu2 dX5_findMasses_255 ?_
      refine j_iinc dX5_findMasses_256 2 rfl [(4, pI (v4 + 1)), (0, pR (some G.1)), (1, pI v1)] (Nat.le_of_ble_eq_true rfl) rfl ?_
      refine j_goto 234 dX5_findMasses_259 (by decide) ?_
      exact j_sub [1, 2, 0] _ rfl (ih (v4 + 1) u2 hf)
theorem c5_findMasses_b231 {G : MG} {l : Launch} {a : List PV} {r : Mu} {Kf : Mu → Option (Mu)} (kh : Int → Mu → Option (Mu)) (hkh : ∀ (z1 : Int) (zu : Mu), ((kh z1 zu).bind Kf = some r) → J5 G l D5_findMasses a none r zu 52 [(0, pR (some G.1)), (1, pI z1)] []) (hK0 : ∀ q : Mu, Kf q = some r → J5 G l D5_findMasses a none r q 268 [] []) (v1 : Int) (u : Mu) (hf : (m5_findMasses_b231 kh v1 u).bind Kf = some r) : J5 G l D5_findMasses a none r u 231 [(0, pR (some G.1)), (1, pI v1)] [] := by
  unfold m5_findMasses_b231 at hf
  refine j_iconst dX5_findMasses_231 ?_
  refine j_istore dX5_findMasses_232 [(4, pI 0), (0, pR (some G.1)), (1, pI v1)] (Nat.le_of_ble_eq_true rfl) rfl ?_
  replace hf := oba hf
  refine j_sub [1, 2, 0] _ rfl (c5_findMasses_l234 v1 ?_ NN 0 u hf)
  · intro q1 hf
    refine j_iinc dX5_findMasses_262 1 rfl [(1, pI (v1 + 1)), (0, pR (some G.1))] (Nat.le_of_ble_eq_true rfl) rfl ?_
    refine j_goto 52 dX5_findMasses_265 (by decide) ?_
    exact j_sub [1, 0] _ rfl (hkh (v1 + 1) q1 hf)
theorem c5_findMasses_l52 {G : MG} {l : Launch} {a : List PV} {r : Mu} {Kf : Mu → Option (Mu)} (hK0 : ∀ q : Mu, Kf q = some r → J5 G l D5_findMasses a none r q 268 [] []) : ∀ (n : Nat) (v1 : Int) (u : Mu), ((m5_findMasses_l52 n v1 u).bind Kf = some r) → J5 G l D5_findMasses a none r u 52 [(0, pR (some G.1)), (1, pI v1)] [] := by
  intro n
  induction n with
  | zero => intro v1 u hf; exact onb hf
  | succ n ih =>
    intro v1 u hf
    unfold m5_findMasses_l52 at hf
    refine j_iload_n dX5_findMasses_52 1 rfl ?_
    refine j_iconst dX5_findMasses_53 ?_
    refine j_icmp_gt (w32 v1) 4 rfl rfl 268 dX5_findMasses_54 (by decide) (fun h6 => ?_) (fun h6 => ?_)
    · replace hf := itb h6 hf
      exact j_sub [] _ rfl (hK0 u hf)
    · replace hf := ieb h6 hf
      refine j_aload_n dX5_findMasses_57 0 rfl ?_
      refine m_geta mf_110 rfl dX5_findMasses_58 ?_
      refine j_iload_n dX5_findMasses_61 1 rfl ?_
      obtain ⟨x1, hx1, hf⟩ := obb hf
      refine m_iald mr_110 hx1 dX5_findMasses_62 ?_
      refine j_i2l dX5_findMasses_63 ?_
      refine j_lstore_n dX5_findMasses_64 [(2, pL (w32 x1)), (0, pR (some G.1)), (1, pI v1)] (Nat.le_of_ble_eq_true rfl) rfl ?_
      refine j_iload_n dX5_findMasses_65 2 rfl ?_
      refine j_istore dX5_findMasses_66 [(4, pI v1), (2, pL (w32 x1)), (0, pR (some G.1)), (1, pI v1)] (Nat.le_of_ble_eq_true rfl) rfl ?_
      replace hf := oba hf
      refine j_sub [2, 3, 1, 0] _ rfl (c5_findMasses_l68 v1 u ?_ NN (w32 x1) v1 hf)
      · intro q2 hf
        refine j_iconst dX5_findMasses_88 ?_
        refine j_istore dX5_findMasses_89 [(4, pI 0), (0, pR (some G.1)), (1, pI v1), (2, pL q2)] (Nat.le_of_ble_eq_true rfl) rfl ?_
        replace hf := oba hf
        refine j_sub [1, 2, 3, 0] _ rfl (c5_findMasses_l91 v1 q2 ?_ NN 0 u hf)
        · intro q3 hf
          refine j_iconst dX5_findMasses_126 ?_
          refine j_istore dX5_findMasses_127 [(4, pI 0), (0, pR (some G.1)), (1, pI v1)] (Nat.le_of_ble_eq_true rfl) rfl ?_
          replace hf := oba hf
          refine j_sub [1, 2, 0] _ rfl (c5_findMasses_l129 v1 ?_ NN 0 q3 hf)
          · intro q4 hf
            refine j_iconst dX5_findMasses_151 ?_
            refine j_istore dX5_findMasses_152 [(4, pI 0), (0, pR (some G.1)), (1, pI v1)] (Nat.le_of_ble_eq_true rfl) rfl ?_
            replace hf := oba hf
            refine j_sub [1, 2, 0] _ rfl (c5_findMasses_l154 v1 ?_ NN 0 q4 hf)
            · intro q5 hf
              exact j_sub [0, 1] _ rfl (c5_findMasses_b231 (m5_findMasses_l52 n) ih hK0 v1 q5 hf)
theorem c5_findMasses {G : MG} {l : Launch} {r : Mu}  (u : Mu) (hf : m5_findMasses u = some r) : JM kT (bM G) (aM G) l yX5_findMasses D5_findMasses [pR (some G.1)] u none r 0 0 := by
  refine j_met (lv0 := [(0, pR (some G.1))]) ⟨pl_X5, rfl, rfl, (Nat.le_of_ble_eq_true rfl), rfl⟩ ?_
  unfold m5_findMasses at hf
  refine j_aload_n dX5_findMasses_0 0 rfl ?_
  refine m_getz mf_115 rfl dX5_findMasses_1 ?_
  refine j_if_eq (w32 (u.1 115)) rfl 8 dX5_findMasses_4 (by decide) (fun h4 => ?_) (fun h4 => ?_)
  · replace hf := it h4 hf
    refine j_aload_n dX5_findMasses_8 0 rfl ?_
    refine j_iconst dX5_findMasses_9 ?_
    obtain ⟨u1, hu1, hf⟩ := ob hf
    refine m_putz_ hu1 ⟨rfl, rfl⟩ mf_115 mfw_115 rfl dX5_findMasses_10 ?_
    refine j_iconst dX5_findMasses_13 ?_
    refine j_istore_n dX5_findMasses_14 [(1, pI 0), (0, pR (some G.1))] (Nat.le_of_ble_eq_true rfl) rfl ?_
    refine j_sub [1, 0] _ rfl (c5_findMasses_l15 ?_ NN 0 u1 hf)
    · intro q2 hf
      refine j_iconst dX5_findMasses_50 ?_
      refine j_istore_n dX5_findMasses_51 [(1, pI 0), (0, pR (some G.1))] (Nat.le_of_ble_eq_true rfl) rfl ?_
      refine j_sub [1, 0] _ rfl (c5_findMasses_l52 ?_ NN 0 q2 hf)
      · intro q3 hf
        replace hf := Option.some.inj hf
        subst hf
        exact j_return (bM_mv G) ⟨Nat.le_refl 0, Nat.le_refl 0⟩ rfl dX5_findMasses_268
  · replace hf := ie h4 hf
    replace hf := Option.some.inj hf
    subst hf
    exact j_return (bM_mv G) ⟨Nat.le_refl 0, Nat.le_refl 0⟩ rfl dX5_findMasses_7
theorem c5_mass_l27 {G : MG} {l : Launch} {a : List PV} {r : Int × Mu} {Kf : Int → Option (Int × Mu)} (v1 : Int) (u : Mu) (hK0 : ∀ q : Int, Kf q = some r → J5 G l D5_mass a (some (pL r.1)) r.2 u 56 [(2, pL q)] []) : ∀ (n : Nat) (v2 : Int) (v4 : Int), ((m5_mass_l27 v1 u n v2 v4).bind Kf = some r) → J5 G l D5_mass a (some (pL r.1)) r.2 u 27 [(0, pR (some G.1)), (1, pI v1), (2, pL v2), (4, pI v4)] [] := by
  intro n
  induction n with
  | zero => intro v2 v4 hf; exact onb hf
  | succ n ih =>
    intro v2 v4 hf
    unfold m5_mass_l27 at hf
    refine j_iload dX5_mass_27 3 rfl ?_
    refine j_sipush dX5_mass_29 (by decide) ?_
    refine j_icmp_gt (w32 v4) 1600 rfl rfl 56 dX5_mass_32 (by decide) (fun h3 => ?_) (fun h3 => ?_)
    · replace hf := itb h3 hf
      exact j_sub [2] _ rfl (hK0 v2 hf)
    · replace hf := ieb h3 hf
      refine j_iload_n dX5_mass_35 1 rfl ?_
      refine j_iconst dX5_mass_36 ?_
      refine j_icmp_ne (w32 v1) (-1) rfl rfl 56 dX5_mass_37 (by decide) (fun h2 => ?_) (fun h2 => ?_)
      · replace hf := ieb h2 hf
        exact j_sub [2] _ rfl (hK0 v2 hf)
      · replace hf := itb h2 hf
        refine j_lload_n dX5_mass_40 2 rfl ?_
        refine j_aload_n dX5_mass_41 0 rfl ?_
        refine m_geta mf_112 rfl dX5_mass_42 ?_
        refine j_iload dX5_mass_45 3 rfl ?_
        obtain ⟨x1, hx1, hf⟩ := obb hf
        refine m_lald mr_112 hx1 dX5_mass_47 ?_
        refine j_ladd dX5_mass_48 ?_
        refine j_lstore_n dX5_mass_49 [(2, pL (v2 + x1)), (0, pR (some G.1)), (1, pI v1), (4, pI v4)] (Nat.le_of_ble_eq_true rfl) rfl ?_
        refine j_iinc dX5_mass_50 3 rfl [(4, pI (v4 + 1)), (2, pL (v2 + x1)), (0, pR (some G.1)), (1, pI v1)] (Nat.le_of_ble_eq_true rfl) rfl ?_
        refine j_goto 27 dX5_mass_53 (by decide) ?_
        exact j_sub [2, 3, 1, 0] _ rfl (ih (v2 + x1) (v4 + 1) hf)
theorem c5_mass_b22 {G : MG} {l : Launch} {a : List PV} {r : Int × Mu} (v1 : Int) (u : Mu) (hf : m5_mass_b22 v1 u = some r) : J5 G l D5_mass a (some (pL r.1)) r.2 u 22 [(0, pR (some G.1)), (1, pI v1)] [] := by
  unfold m5_mass_b22 at hf
  refine j_lconst (z := 0) dX5_mass_22 rfl ?_
  refine j_lstore_n dX5_mass_23 [(2, pL 0), (0, pR (some G.1)), (1, pI v1)] (Nat.le_of_ble_eq_true rfl) rfl ?_
  refine j_iconst dX5_mass_24 ?_
  refine j_istore dX5_mass_25 [(4, pI 0), (2, pL 0), (0, pR (some G.1)), (1, pI v1)] (Nat.le_of_ble_eq_true rfl) rfl ?_
  refine j_sub [2, 3, 1, 0] _ rfl (c5_mass_l27 v1 u ?_ NN 0 0 hf)
  · intro q1 hf
    refine j_lload_n dX5_mass_56 0 rfl ?_
    replace hf := Option.some.inj hf
    subst hf
    exact j_lreturn (bM_mv G) ⟨Nat.le_refl 0, Nat.le_refl 0⟩ rfl dX5_mass_57
theorem c5_mass {G : MG} {l : Launch} {r : Int × Mu} (v1 : Int) (u : Mu) (hf : m5_mass v1 u = some r) : JM kT (bM G) (aM G) l yX5_mass D5_mass [pR (some G.1), pI v1] u (some (pL r.1)) r.2 0 0 := by
  refine j_met (lv0 := [(0, pR (some G.1)), (1, pI v1)]) ⟨pl_X5, rfl, rfl, (Nat.le_of_ble_eq_true rfl), rfl⟩ ?_
  unfold m5_mass at hf
  refine j_aload_n dX5_mass_0 0 rfl ?_
  obtain ⟨u1, hu1, hf⟩ := ob hf
  refine j_cVv [] [] kT_v (bM_mv G) (c5_findMasses  u hu1) wv5_findMasses dv5_findMasses rfl ⟨(Nat.le_of_ble_eq_true rfl), (Nat.le_of_ble_eq_true rfl)⟩ (m_recv u) rfl (Nat.le_of_ble_eq_true rfl) dX5_mass_1 ⟨Nat.le_refl 0, Nat.le_refl 0⟩ ?_
  refine j_iload_n dX5_mass_4 1 rfl ?_
  refine j_if_lt (w32 v1) rfl 22 dX5_mass_5 (by decide) (fun h4 => ?_) (fun h4 => ?_)
  · replace hf := it h4 hf
    exact j_sub [0, 1] _ rfl (c5_mass_b22 v1 u1 hf)
  · replace hf := ie h4 hf
    refine j_iload_n dX5_mass_8 1 rfl ?_
    refine j_sipush dX5_mass_9 (by decide) ?_
    refine j_icmp_gt (w32 v1) 1600 rfl rfl 22 dX5_mass_12 (by decide) (fun h3 => ?_) (fun h3 => ?_)
    · replace hf := it h3 hf
      exact j_sub [0, 1] _ rfl (c5_mass_b22 v1 u1 hf)
    · replace hf := ie h3 hf
      refine j_aload_n dX5_mass_15 0 rfl ?_
      refine m_geta mf_112 rfl dX5_mass_16 ?_
      refine j_iload_n dX5_mass_19 1 rfl ?_
      obtain ⟨x2, hx2, hf⟩ := ob hf
      refine m_lald mr_112 hx2 dX5_mass_20 ?_
      replace hf := Option.some.inj hf
      subst hf
      exact j_lreturn (bM_mv G) ⟨Nat.le_refl 0, Nat.le_refl 0⟩ rfl dX5_mass_21
theorem c5_quantile_l50 {G : MG} {l : Launch} {a : List PV} {r : Int × Mu} {Kf : Int → Option (Int × Mu)} (v1 : Int) (v2 : Int) (v3 : Int) (u : Mu) (hK0 : ∀ q : Int, Kf q = some r → J5 G l D5_quantile a (some (pI r.1)) r.2 u 81 [(7, pI q)] []) : ∀ (n : Nat) (v5 : Int) (v7 : Int), ((m5_quantile_l50 v1 v2 v3 u n v5 v7).bind Kf = some r) → J5 G l D5_quantile a (some (pI r.1)) r.2 u 50 [(0, pR (some G.1)), (1, pI v1), (2, pI v2), (3, pL v3), (5, pL v5), (7, pI v7)] [] := by
  intro n
  induction n with
  | zero => intro v5 v7 hf; exact onb hf
  | succ n ih =>
    intro v5 v7 hf
    unfold m5_quantile_l50 at hf
    refine j_iload_n dX5_quantile_50 2 rfl ?_
    refine j_i2l dX5_quantile_51 ?_
    refine j_lload dX5_quantile_52 4 rfl ?_
    refine j_lmul dX5_quantile_54 ?_
    refine j_iload_n dX5_quantile_55 1 rfl ?_
    refine j_i2l dX5_quantile_56 ?_
    refine j_lload_n dX5_quantile_57 3 rfl ?_
    refine j_lmul dX5_quantile_58 ?_
    refine j_lc_ge 81 dX5_quantile_59 dX5_quantile_60 (by decide) (fun h2 => ?_) (fun h2 => ?_)
    · replace hf := itb h2 hf
      exact j_sub [5] _ rfl (hK0 v7 hf)
    · replace hf := ieb h2 hf
      refine j_iinc dX5_quantile_63 5 rfl [(7, pI (v7 + 1)), (0, pR (some G.1)), (1, pI v1), (2, pI v2), (3, pL v3), (5, pL v5)] (Nat.le_of_ble_eq_true rfl) rfl ?_
      refine j_lload dX5_quantile_66 5 rfl ?_
      refine j_aload_n dX5_quantile_68 1 rfl ?_
      refine m_geta mf_112 rfl dX5_quantile_69 ?_
      refine j_iload dX5_quantile_72 0 rfl ?_
      obtain ⟨x1, hx1, hf⟩ := obb hf
      refine m_lald mr_112 hx1 dX5_quantile_74 ?_
      refine j_ladd dX5_quantile_75 ?_
      refine j_lstore dX5_quantile_76 [(5, pL (v5 + x1)), (7, pI (v7 + 1)), (0, pR (some G.1)), (1, pI v1), (2, pI v2), (3, pL v3)] (Nat.le_of_ble_eq_true rfl) rfl ?_
      refine j_goto 50 dX5_quantile_78 (by decide) ?_
      exact j_sub [2, 3, 4, 5, 0, 1] _ rfl (ih (v5 + x1) (v7 + 1) hf)
theorem c5_quantile {G : MG} {l : Launch} {r : Int × Mu} (v1 : Int) (v2 : Int) (u : Mu) (hf : m5_quantile v1 v2 u = some r) : JM kT (bM G) (aM G) l yX5_quantile D5_quantile [pR (some G.1), pI v1, pI v2] u (some (pI r.1)) r.2 0 0 := by
  refine j_met (lv0 := [(0, pR (some G.1)), (1, pI v1), (2, pI v2)]) ⟨pl_X5, rfl, rfl, (Nat.le_of_ble_eq_true rfl), rfl⟩ ?_
  unfold m5_quantile at hf
  refine j_iload_n dX5_quantile_0 2 rfl ?_
  refine j_iconst dX5_quantile_1 ?_
  refine j_icmp_lt (w32 v2) 1 rfl rfl 21 dX5_quantile_2 (by decide) (fun h8 => ?_) (fun h8 => ?_)
  · replace hf := it h8 hf
    refine j_bipush dX5_quantile_21 (by decide) ?_
    replace hf := Option.some.inj hf
    subst hf
    exact j_ireturn (bM_mv G) ⟨Nat.le_refl 0, Nat.le_refl 0⟩ rfl dX5_quantile_23
  · replace hf := ie h8 hf
    refine j_iload_n dX5_quantile_5 2 rfl ?_
    refine j_sipush dX5_quantile_6 (by decide) ?_
    refine j_icmp_gt (w32 v2) 1000 rfl rfl 21 dX5_quantile_9 (by decide) (fun h7 => ?_) (fun h7 => ?_)
    · replace hf := it h7 hf
      refine j_bipush dX5_quantile_21 (by decide) ?_
      replace hf := Option.some.inj hf
      subst hf
      exact j_ireturn (bM_mv G) ⟨Nat.le_refl 0, Nat.le_refl 0⟩ rfl dX5_quantile_23
    · replace hf := ie h7 hf
      refine j_iload_n dX5_quantile_12 1 rfl ?_
      refine j_if_lt (w32 v1) rfl 21 dX5_quantile_13 (by decide) (fun h6 => ?_) (fun h6 => ?_)
      · replace hf := it h6 hf
        refine j_bipush dX5_quantile_21 (by decide) ?_
        replace hf := Option.some.inj hf
        subst hf
        exact j_ireturn (bM_mv G) ⟨Nat.le_refl 0, Nat.le_refl 0⟩ rfl dX5_quantile_23
      · replace hf := ie h6 hf
        refine j_iload_n dX5_quantile_16 1 rfl ?_
        refine j_iload_n dX5_quantile_17 2 rfl ?_
        refine j_icmp_le (w32 v1) (w32 v2) rfl rfl 24 dX5_quantile_18 (by decide) (fun h5 => ?_) (fun h5 => ?_)
        · replace hf := it h5 hf
          refine j_aload_n dX5_quantile_24 0 rfl ?_
          refine j_iconst dX5_quantile_25 ?_
          obtain ⟨q1, hq1, hf⟩ := ob hf
          refine j_cVr [pI (-1)] [] kT_v (bM_mv G) (c5_mass (-1) u hq1) wv5_mass dv5_mass rfl ⟨(Nat.le_of_ble_eq_true rfl), (Nat.le_of_ble_eq_true rfl)⟩ (m_recv u) rfl (Nat.le_of_ble_eq_true rfl) dX5_quantile_26 ⟨Nat.le_refl 0, Nat.le_refl 0⟩ ?_
          refine j_lstore_n dX5_quantile_29 [(3, pL q1.1), (0, pR (some G.1)), (1, pI v1), (2, pI v2)] (Nat.le_of_ble_eq_true rfl) rfl ?_
          refine j_lload_n dX5_quantile_30 0 rfl ?_
          refine j_lconst (z := 0) dX5_quantile_31 rfl ?_
          refine j_lc_ne 39 dX5_quantile_32 dX5_quantile_33 (by decide) (fun h4 => ?_) (fun h4 => ?_)
          · replace hf := ie h4 hf
            refine j_aload_n dX5_quantile_39 1 rfl ?_
            refine m_geta mf_112 rfl dX5_quantile_40 ?_
            refine j_iconst dX5_quantile_43 ?_
            obtain ⟨x2, hx2, hf⟩ := ob hf
            refine m_lald mr_112 hx2 dX5_quantile_44 ?_
            refine j_lstore dX5_quantile_45 [(5, pL x2), (3, pL q1.1), (0, pR (some G.1)), (1, pI v1), (2, pI v2)] (Nat.le_of_ble_eq_true rfl) rfl ?_
            refine j_iconst dX5_quantile_47 ?_
            refine j_istore dX5_quantile_48 [(7, pI 0), (5, pL x2), (3, pL q1.1), (0, pR (some G.1)), (1, pI v1), (2, pI v2)] (Nat.le_of_ble_eq_true rfl) rfl ?_
            refine j_sub [3, 4, 5, 2, 1, 0] _ rfl (c5_quantile_l50 v1 v2 q1.1 q1.2 ?_ NN x2 0 hf)
            · intro q3 hf
              refine j_iload dX5_quantile_81 0 rfl ?_
              replace hf := Option.some.inj hf
              subst hf
              exact j_ireturn (bM_mv G) ⟨Nat.le_refl 0, Nat.le_refl 0⟩ rfl dX5_quantile_83
          · replace hf := it h4 hf
            refine j_bipush dX5_quantile_36 (by decide) ?_
            replace hf := Option.some.inj hf
            subst hf
            exact j_ireturn (bM_mv G) ⟨Nat.le_refl 0, Nat.le_refl 0⟩ rfl dX5_quantile_38
        · replace hf := ie h5 hf
          refine j_bipush dX5_quantile_21 (by decide) ?_
          replace hf := Option.some.inj hf
          subst hf
          exact j_ireturn (bM_mv G) ⟨Nat.le_refl 0, Nat.le_refl 0⟩ rfl dX5_quantile_23
theorem c5_beyond_l26 {G : MG} {l : Launch} {a : List PV} {r : Int × Mu} {Kf : Int → Option (Int × Mu)} (v1 : Int) (u : Mu) (hK0 : ∀ q : Int, Kf q = some r → J5 G l D5_beyond a (some (pL r.1)) r.2 u 56 [(2, pL q)] []) : ∀ (n : Nat) (v2 : Int) (v4 : Int), ((m5_beyond_l26 v1 u n v2 v4).bind Kf = some r) → J5 G l D5_beyond a (some (pL r.1)) r.2 u 26 [(0, pR (some G.1)), (1, pI v1), (2, pL v2), (4, pI v4)] [] := by
  intro n
  induction n with
  | zero => intro v2 v4 hf; exact onb hf
  | succ n ih =>
    intro v2 v4 hf
    unfold m5_beyond_l26 at hf
    refine j_iload dX5_beyond_26 3 rfl ?_
    refine j_sipush dX5_beyond_28 (by decide) ?_
    refine j_icmp_gt (w32 v4) 1600 rfl rfl 56 dX5_beyond_31 (by decide) (fun h2 => ?_) (fun h2 => ?_)
    · replace hf := itb h2 hf
      exact j_sub [2] _ rfl (hK0 v2 hf)
    · replace hf := ieb h2 hf
      refine j_lload_n dX5_beyond_34 2 rfl ?_
      refine j_iload dX5_beyond_35 3 rfl ?_
      refine j_iload_n dX5_beyond_37 1 rfl ?_
      refine j_isub dX5_beyond_38 ?_
      refine j_i2l dX5_beyond_39 ?_
      refine j_aload_n dX5_beyond_40 0 rfl ?_
      refine m_geta mf_112 rfl dX5_beyond_41 ?_
      refine j_iload dX5_beyond_44 3 rfl ?_
      obtain ⟨x1, hx1, hf⟩ := obb hf
      refine m_lald mr_112 hx1 dX5_beyond_46 ?_
      refine j_lmul dX5_beyond_47 ?_
      refine j_ladd dX5_beyond_48 ?_
      refine j_lstore_n dX5_beyond_49 [(2, pL (v2 + ((w32 (v4 - v1)) * x1))), (0, pR (some G.1)), (1, pI v1), (4, pI v4)] (Nat.le_of_ble_eq_true rfl) rfl ?_
      refine j_iinc dX5_beyond_50 3 rfl [(4, pI (v4 + 1)), (2, pL (v2 + ((w32 (v4 - v1)) * x1))), (0, pR (some G.1)), (1, pI v1)] (Nat.le_of_ble_eq_true rfl) rfl ?_
      refine j_goto 26 dX5_beyond_53 (by decide) ?_
      exact j_sub [2, 3, 1, 0] _ rfl (ih (v2 + ((w32 (v4 - v1)) * x1)) (v4 + 1) hf)
theorem c5_beyond {G : MG} {l : Launch} {r : Int × Mu} (v1 : Int) (u : Mu) (hf : m5_beyond v1 u = some r) : JM kT (bM G) (aM G) l yX5_beyond D5_beyond [pR (some G.1), pI v1] u (some (pL r.1)) r.2 0 0 := by
  refine j_met (lv0 := [(0, pR (some G.1)), (1, pI v1)]) ⟨pl_X5, rfl, rfl, (Nat.le_of_ble_eq_true rfl), rfl⟩ ?_
  unfold m5_beyond at hf
  refine j_iload_n dX5_beyond_0 1 rfl ?_
  refine j_if_lt (w32 v1) rfl 11 dX5_beyond_1 (by decide) (fun h4 => ?_) (fun h4 => ?_)
  · replace hf := it h4 hf
    refine j_ldc2 (z := (-2)) q2608 (by decide) dX5_beyond_11 ?_
    replace hf := Option.some.inj hf
    subst hf
    exact j_lreturn (bM_mv G) ⟨Nat.le_refl 0, Nat.le_refl 0⟩ rfl dX5_beyond_14
  · replace hf := ie h4 hf
    refine j_iload_n dX5_beyond_4 1 rfl ?_
    refine j_sipush dX5_beyond_5 (by decide) ?_
    refine j_icmp_le (w32 v1) 1600 rfl rfl 15 dX5_beyond_8 (by decide) (fun h3 => ?_) (fun h3 => ?_)
    · replace hf := it h3 hf
      refine j_aload_n dX5_beyond_15 0 rfl ?_
      obtain ⟨u1, hu1, hf⟩ := ob hf
      refine j_cVv [] [] kT_v (bM_mv G) (c5_findMasses  u hu1) wv5_findMasses dv5_findMasses rfl ⟨(Nat.le_of_ble_eq_true rfl), (Nat.le_of_ble_eq_true rfl)⟩ (m_recv u) rfl (Nat.le_of_ble_eq_true rfl) dX5_beyond_16 ⟨Nat.le_refl 0, Nat.le_refl 0⟩ ?_
      refine j_lconst (z := 0) dX5_beyond_19 rfl ?_
      refine j_lstore_n dX5_beyond_20 [(2, pL 0), (0, pR (some G.1)), (1, pI v1)] (Nat.le_of_ble_eq_true rfl) rfl ?_
      refine j_iload_n dX5_beyond_21 2 rfl ?_
      refine j_iconst dX5_beyond_22 ?_
      refine j_iadd dX5_beyond_23 ?_
      refine j_istore dX5_beyond_24 [(4, pI (v1 + 1)), (2, pL 0), (0, pR (some G.1)), (1, pI v1)] (Nat.le_of_ble_eq_true rfl) rfl ?_
      refine j_sub [2, 3, 1, 0] _ rfl (c5_beyond_l26 v1 u1 ?_ NN 0 (v1 + 1) hf)
      · intro q2 hf
        refine j_lload_n dX5_beyond_56 0 rfl ?_
        replace hf := Option.some.inj hf
        subst hf
        exact j_lreturn (bM_mv G) ⟨Nat.le_refl 0, Nat.le_refl 0⟩ rfl dX5_beyond_57
    · replace hf := ie h3 hf
      refine j_ldc2 (z := (-2)) q2608 (by decide) dX5_beyond_11 ?_
      replace hf := Option.some.inj hf
      subst hf
      exact j_lreturn (bM_mv G) ⟨Nat.le_refl 0, Nat.le_refl 0⟩ rfl dX5_beyond_14
theorem c5_told {G : MG} {l : Launch} {r : Int} (v1 : Int) (u : Mu) (hf : m5_told v1 u = some r) : JM kT (bM G) (aM G) l yX5_told D5_told [pR (some G.1), pI v1] u (some (pI r)) u 0 0 := by
  refine j_met (lv0 := [(0, pR (some G.1)), (1, pI v1)]) ⟨pl_X5, rfl, rfl, (Nat.le_of_ble_eq_true rfl), rfl⟩ ?_
  unfold m5_told at hf
  refine j_iload_n dX5_told_0 1 rfl ?_
  rcases Decidable.em ((w32 v1) = 0) with h1 | h1
  · replace hf := it h1 hf
    refine j_tabIn (z := 0) 48 dX5_told_1 h1 ⟨⟨by decide, by decide⟩, rfl⟩ (by decide) ?_
    refine j_aload_n dX5_told_48 0 rfl ?_
    refine m_geti mf_11 rfl dX5_told_49 ?_
    replace hf := Option.some.inj hf
    subst hf
    exact j_ireturn (bM_mv G) ⟨Nat.le_refl 0, Nat.le_refl 0⟩ rfl dX5_told_52
  replace hf := ie h1 hf
  rcases Decidable.em ((w32 v1) = 1) with h2 | h2
  · replace hf := it h2 hf
    refine j_tabIn (z := 1) 53 dX5_told_1 h2 ⟨⟨by decide, by decide⟩, rfl⟩ (by decide) ?_
    refine j_aload_n dX5_told_53 0 rfl ?_
    refine m_geti mf_71 rfl dX5_told_54 ?_
    replace hf := Option.some.inj hf
    subst hf
    exact j_ireturn (bM_mv G) ⟨Nat.le_refl 0, Nat.le_refl 0⟩ rfl dX5_told_57
  replace hf := ie h2 hf
  rcases Decidable.em ((w32 v1) = 2) with h3 | h3
  · replace hf := it h3 hf
    refine j_tabIn (z := 2) 58 dX5_told_1 h3 ⟨⟨by decide, by decide⟩, rfl⟩ (by decide) ?_
    refine j_aload_n dX5_told_58 0 rfl ?_
    refine m_geti mf_81 rfl dX5_told_59 ?_
    replace hf := Option.some.inj hf
    subst hf
    exact j_ireturn (bM_mv G) ⟨Nat.le_refl 0, Nat.le_refl 0⟩ rfl dX5_told_62
  replace hf := ie h3 hf
  rcases Decidable.em ((w32 v1) = 3) with h4 | h4
  · replace hf := it h4 hf
    refine j_tabIn (z := 3) 63 dX5_told_1 h4 ⟨⟨by decide, by decide⟩, rfl⟩ (by decide) ?_
    refine j_aload_n dX5_told_63 0 rfl ?_
    refine m_geti mf_87 rfl dX5_told_64 ?_
    replace hf := Option.some.inj hf
    subst hf
    exact j_ireturn (bM_mv G) ⟨Nat.le_refl 0, Nat.le_refl 0⟩ rfl dX5_told_67
  replace hf := ie h4 hf
  rcases Decidable.em ((w32 v1) = 4) with h5 | h5
  · replace hf := it h5 hf
    refine j_tabIn (z := 4) 68 dX5_told_1 h5 ⟨⟨by decide, by decide⟩, rfl⟩ (by decide) ?_
    refine j_aload_n dX5_told_68 0 rfl ?_
    refine m_geti mf_97 rfl dX5_told_69 ?_
    replace hf := Option.some.inj hf
    subst hf
    exact j_ireturn (bM_mv G) ⟨Nat.le_refl 0, Nat.le_refl 0⟩ rfl dX5_told_72
  replace hf := ie h5 hf
  rcases Decidable.em ((w32 v1) = 5) with h6 | h6
  · replace hf := it h6 hf
    refine j_tabIn (z := 5) 73 dX5_told_1 h6 ⟨⟨by decide, by decide⟩, rfl⟩ (by decide) ?_
    refine j_aload_n dX5_told_73 0 rfl ?_
    refine m_geti mf_102 rfl dX5_told_74 ?_
    replace hf := Option.some.inj hf
    subst hf
    exact j_ireturn (bM_mv G) ⟨Nat.le_refl 0, Nat.le_refl 0⟩ rfl dX5_told_77
  replace hf := ie h6 hf
  rcases Decidable.em ((w32 v1) = 6) with h7 | h7
  · replace hf := it h7 hf
    refine j_tabIn (z := 6) 78 dX5_told_1 h7 ⟨⟨by decide, by decide⟩, rfl⟩ (by decide) ?_
    refine j_aload_n dX5_told_78 0 rfl ?_
    refine m_geti mf_111 rfl dX5_told_79 ?_
    replace hf := Option.some.inj hf
    subst hf
    exact j_ireturn (bM_mv G) ⟨Nat.le_refl 0, Nat.le_refl 0⟩ rfl dX5_told_82
  replace hf := ie h7 hf
  rcases Decidable.em ((w32 v1) = 7) with h8 | h8
  · replace hf := it h8 hf
    refine j_tabIn (z := 7) 83 dX5_told_1 h8 ⟨⟨by decide, by decide⟩, rfl⟩ (by decide) ?_
    refine j_aload_n dX5_told_83 0 rfl ?_
    refine m_geti mf_2 rfl dX5_told_84 ?_
    replace hf := Option.some.inj hf
    subst hf
    exact j_ireturn (bM_mv G) ⟨Nat.le_refl 0, Nat.le_refl 0⟩ rfl dX5_told_87
  replace hf := ie h8 hf
  refine j_tabOut 88 dX5_told_1 (by omega) (by decide) ?_
  refine j_bipush dX5_told_88 (by decide) ?_
  replace hf := Option.some.inj hf
  subst hf
  exact j_ireturn (bM_mv G) ⟨Nat.le_refl 0, Nat.le_refl 0⟩ rfl dX5_told_90

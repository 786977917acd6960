theorem c5_type_l42 {G : MG} {l : Launch} {a : List PV} {r : Int × Mu} {Kf : Mu → Option (Int × Mu)} (v1 : Int) (hK0 : ∀ q : Mu, Kf q = some r → J5 G l D5_type a (some (pI r.1)) r.2 q 81 [(0, pR (some G.1))] []) : ∀ (n : Nat) (v4 : Int) (u : Mu), ((m5_type_l42 v1 n v4 u).bind Kf = some r) → J5 G l D5_type a (some (pI r.1)) r.2 u 42 [(0, pR (some G.1)), (1, pL v1), (4, pI v4)] [] := by
  intro n
  induction n with
  | zero => intro v4 u hf; exact onb hf
  | succ n ih =>
    intro v4 u hf
    unfold m5_type_l42 at hf
    refine j_iload dX5_type_42 2 rfl ?_
    refine j_if_lt (w32 v4) rfl 81 dX5_type_44 (by decide) (fun h3 => ?_) (fun h3 => ?_)
    · replace hf := itb h3 hf
      exact j_sub [0] _ rfl (hK0 u hf)
    · replace hf := ieb h3 hf
      refine j_aload_n dX5_type_47 0 rfl ?_
      refine m_geta mf_1 rfl dX5_type_48 ?_
      refine j_aload_n dX5_type_51 0 rfl ?_
      refine m_geti mf_2 rfl dX5_type_52 ?_
      refine j_lload_n dX5_type_55 1 rfl ?_
      refine j_bipush dX5_type_56 (by decide) ?_
      refine j_iload dX5_type_58 2 rfl ?_
      refine j_imul dX5_type_60 ?_
      refine j_lushr dX5_type_61 ?_
      refine j_l2i dX5_type_62 ?_
      refine j_i2b dX5_type_63 ?_
      obtain ⟨u1, hu1, hf⟩ := obb hf
      refine m_bast mr_1 hu1 dX5_type_64 ?_
      refine j_aload_n dX5_type_65 0 rfl ?_
      refine j_dup dX5_type_66 rfl ?_
      refine m_geti mf_2 rfl dX5_type_67 ?_
      refine j_iconst dX5_type_70 ?_
      refine j_iadd dX5_type_71 ?_
      obtain ⟨u2, hu2, hf⟩ := obb hf
      refine m_puti_ hu2 mf_2 mfw_2 rfl dX5_type_72 ?_
      refine j_iinc dX5_type_75 2 rfl [(4, pI (v4 + (-1))), (0, pR (some G.1)), (1, pL v1)] (Nat.le_of_ble_eq_true rfl) rfl ?_
      refine j_goto 42 dX5_type_78 (by decide) ?_
      exact j_sub [1, 2, 0] _ rfl (ih (v4 + (-1)) u2 hf)
theorem c5_type_b22 {G : MG} {l : Launch} {a : List PV} {r : Int × Mu} (v1 : Int) (v3 : Int) (u : Mu) (hf : m5_type_b22 v1 v3 u = some r) : J5 G l D5_type a (some (pI r.1)) r.2 u 22 [(0, pR (some G.1)), (1, pL v1), (3, pI v3)] [] := by
  unfold m5_type_b22 at hf
  refine j_aload_n dX5_type_22 0 rfl ?_
  refine m_geti mf_2 rfl dX5_type_23 ?_
  refine j_iload_n dX5_type_26 2 rfl ?_
  refine j_iadd dX5_type_27 ?_
  refine j_sipush dX5_type_28 (by decide) ?_
  refine j_icmp_le (w32 ((u.1 2) + v3)) 4000 rfl rfl 37 dX5_type_31 (by decide) (fun h2 => ?_) (fun h2 => ?_)
  · replace hf := it h2 hf
    refine j_iload_n dX5_type_37 2 rfl ?_
    refine j_iconst dX5_type_38 ?_
    refine j_isub dX5_type_39 ?_
    refine j_istore dX5_type_40 [(4, pI (v3 - 1)), (0, pR (some G.1)), (1, pL v1), (3, pI v3)] (Nat.le_of_ble_eq_true rfl) rfl ?_
    refine j_sub [1, 2, 0] _ rfl (c5_type_l42 v1 ?_ NN (v3 - 1) u hf)
    · intro q1 hf
      refine j_aload_n dX5_type_81 0 rfl ?_
      refine m_geti mf_2 rfl dX5_type_82 ?_
      replace hf := Option.some.inj hf
      subst hf
      exact j_ireturn (bM_mv G) ⟨Nat.le_refl 0, Nat.le_refl 0⟩ rfl dX5_type_85
  · replace hf := ie h2 hf
    refine j_bipush dX5_type_34 (by decide) ?_
    replace hf := Option.some.inj hf
    subst hf
    exact j_ireturn (bM_mv G) ⟨Nat.le_refl 0, Nat.le_refl 0⟩ rfl dX5_type_36
theorem c5_type {G : MG} {l : Launch} {r : Int × Mu} (v1 : Int) (v3 : Int) (u : Mu) (hf : m5_type v1 v3 u = some r) : JM kT (bM G) (aM G) l yX5_type D5_type [pR (some G.1), pL v1, pI v3] u (some (pI r.1)) r.2 0 0 := by
  refine j_met (lv0 := [(0, pR (some G.1)), (1, pL v1), (3, pI v3)]) ⟨pl_X5, rfl, rfl, (Nat.le_of_ble_eq_true rfl), rfl⟩ ?_
  unfold m5_type at hf
  refine j_iload_n dX5_type_0 2 rfl ?_
  refine j_if_lt (w32 v3) rfl 10 dX5_type_1 (by decide) (fun h4 => ?_) (fun h4 => ?_)
  · replace hf := it h4 hf
    refine j_bipush dX5_type_10 (by decide) ?_
    replace hf := Option.some.inj hf
    subst hf
    exact j_ireturn (bM_mv G) ⟨Nat.le_refl 0, Nat.le_refl 0⟩ rfl dX5_type_12
  · replace hf := ie h4 hf
    refine j_iload_n dX5_type_4 2 rfl ?_
    refine j_bipush dX5_type_5 (by decide) ?_
    refine j_icmp_le (w32 v3) 8 rfl rfl 13 dX5_type_7 (by decide) (fun h3 => ?_) (fun h3 => ?_)
    · replace hf := it h3 hf
      refine j_iload_n dX5_type_13 2 rfl ?_
      refine j_if_ne (w32 v3) rfl 22 dX5_type_14 (by decide) (fun h2 => ?_) (fun h2 => ?_)
      · replace hf := ie h2 hf
        exact j_sub [0, 1, 2] _ rfl (c5_type_b22 v1 v3 u hf)
      · replace hf := it h2 hf
        refine j_aload_n dX5_type_17 0 rfl ?_
        refine j_iconst dX5_type_18 ?_
        obtain ⟨u1, hu1, hf⟩ := ob hf
        refine m_puti_ hu1 mf_2 mfw_2 rfl dX5_type_19 ?_
        exact j_sub [0, 1, 2] _ rfl (c5_type_b22 v1 v3 u1 hf)
    · replace hf := ie h3 hf
      refine j_bipush dX5_type_10 (by decide) ?_
      replace hf := Option.some.inj hf
      subst hf
      exact j_ireturn (bM_mv G) ⟨Nat.le_refl 0, Nat.le_refl 0⟩ rfl dX5_type_12
theorem c5_place {G : MG} {l : Launch} {r : Int}  (u : Mu) (hf : m5_place u = some r) : JM kT (bM G) (aM G) l yX5_place D5_place [pR (some G.1)] u (some (pI r)) u 0 0 := by
  refine j_met (lv0 := [(0, pR (some G.1))]) ⟨pl_X5, rfl, rfl, (Nat.le_of_ble_eq_true rfl), rfl⟩ ?_
  unfold m5_place at hf
  refine j_aload_n dX5_place_0 0 rfl ?_
  refine m_geti mf_10 rfl dX5_place_1 ?_
  replace hf := Option.some.inj hf
  subst hf
  exact j_ireturn (bM_mv G) ⟨Nat.le_refl 0, Nat.le_refl 0⟩ rfl dX5_place_4
theorem c5_isFigure {G : MG} {l : Launch} {r : Int} (v0 : Int) (u : Mu) (hf : m5_isFigure v0 = some r) : JM kT (bM G) (aM G) l yX5_isFigure D5_isFigure [pI v0] u (some (pI r)) u 0 0 := by
  refine j_met (lv0 := [(0, pI v0)]) ⟨pl_X5, rfl, rfl, (Nat.le_of_ble_eq_true rfl), rfl⟩ ?_
  unfold m5_isFigure at hf
  refine j_iload_n dX5_isFigure_0 0 rfl ?_
  refine j_bipush dX5_isFigure_1 (by decide) ?_
  refine j_icmp_lt (w32 v0) 48 rfl rfl 16 dX5_isFigure_3 (by decide) (fun h2 => ?_) (fun h2 => ?_)
  · replace hf := it h2 hf
    refine j_iconst dX5_isFigure_16 ?_
    replace hf := Option.some.inj hf
    subst hf
    exact j_zreturn (x := 0) (bM_mv G) ⟨Nat.le_refl 0, Nat.le_refl 0⟩ (ty := .boolean) rfl (nar_z (Or.inl rfl)) dX5_isFigure_17
  · replace hf := ie h2 hf
    refine j_iload_n dX5_isFigure_6 0 rfl ?_
    refine j_bipush dX5_isFigure_7 (by decide) ?_
    refine j_icmp_gt (w32 v0) 57 rfl rfl 16 dX5_isFigure_9 (by decide) (fun h1 => ?_) (fun h1 => ?_)
    · replace hf := it h1 hf
      refine j_iconst dX5_isFigure_16 ?_
      replace hf := Option.some.inj hf
      subst hf
      exact j_zreturn (x := 0) (bM_mv G) ⟨Nat.le_refl 0, Nat.le_refl 0⟩ (ty := .boolean) rfl (nar_z (Or.inl rfl)) dX5_isFigure_17
    · replace hf := ie h1 hf
      refine j_iconst dX5_isFigure_12 ?_
      refine j_goto 17 dX5_isFigure_13 (by decide) ?_
      replace hf := Option.some.inj hf
      subst hf
      exact j_zreturn (x := 1) (bM_mv G) ⟨Nat.le_refl 0, Nat.le_refl 0⟩ (ty := .boolean) rfl (nar_z (Or.inr rfl)) dX5_isFigure_17
theorem c5_isLetter {G : MG} {l : Launch} {r : Int} (v0 : Int) (u : Mu) (hf : m5_isLetter v0 = some r) : JM kT (bM G) (aM G) l yX5_isLetter D5_isLetter [pI v0] u (some (pI r)) u 0 0 := by
  refine j_met (lv0 := [(0, pI v0)]) ⟨pl_X5, rfl, rfl, (Nat.le_of_ble_eq_true rfl), rfl⟩ ?_
  unfold m5_isLetter at hf
  refine j_iload_n dX5_isLetter_0 0 rfl ?_
  refine j_bipush dX5_isLetter_1 (by decide) ?_
  refine j_icmp_lt (w32 v0) 97 rfl rfl 16 dX5_isLetter_3 (by decide) (fun h2 => ?_) (fun h2 => ?_)
  · replace hf := it h2 hf
    refine j_iconst dX5_isLetter_16 ?_
    replace hf := Option.some.inj hf
    subst hf
    exact j_zreturn (x := 0) (bM_mv G) ⟨Nat.le_refl 0, Nat.le_refl 0⟩ (ty := .boolean) rfl (nar_z (Or.inl rfl)) dX5_isLetter_17
  · replace hf := ie h2 hf
    refine j_iload_n dX5_isLetter_6 0 rfl ?_
    refine j_bipush dX5_isLetter_7 (by decide) ?_
    refine j_icmp_gt (w32 v0) 122 rfl rfl 16 dX5_isLetter_9 (by decide) (fun h1 => ?_) (fun h1 => ?_)
    · replace hf := it h1 hf
      refine j_iconst dX5_isLetter_16 ?_
      replace hf := Option.some.inj hf
      subst hf
      exact j_zreturn (x := 0) (bM_mv G) ⟨Nat.le_refl 0, Nat.le_refl 0⟩ (ty := .boolean) rfl (nar_z (Or.inl rfl)) dX5_isLetter_17
    · replace hf := ie h1 hf
      refine j_iconst dX5_isLetter_12 ?_
      refine j_goto 17 dX5_isLetter_13 (by decide) ?_
      replace hf := Option.some.inj hf
      subst hf
      exact j_zreturn (x := 1) (bM_mv G) ⟨Nat.le_refl 0, Nat.le_refl 0⟩ (ty := .boolean) rfl (nar_z (Or.inr rfl)) dX5_isLetter_17
theorem c5_octet {G : MG} {l : Launch} {r : Int} (v1 : Int) (u : Mu) (hf : m5_octet v1 u = some r) : JM kT (bM G) (aM G) l yX5_octet D5_octet [pR (some G.1), pI v1] u (some (pI r)) u 0 0 := by
  refine j_met (lv0 := [(0, pR (some G.1)), (1, pI v1)]) ⟨pl_X5, rfl, rfl, (Nat.le_of_ble_eq_true rfl), rfl⟩ ?_
  unfold m5_octet at hf
  refine j_iload_n dX5_octet_0 1 rfl ?_
  refine j_aload_n dX5_octet_1 0 rfl ?_
  refine m_geti mf_2 rfl dX5_octet_2 ?_
  refine j_icmp_ge (w32 v1) (w32 (u.1 2)) rfl rfl 21 dX5_octet_5 (by decide) (fun h2 => ?_) (fun h2 => ?_)
  · replace hf := it h2 hf
    refine j_iconst dX5_octet_21 ?_
    replace hf := Option.some.inj hf
    subst hf
    exact j_ireturn (bM_mv G) ⟨Nat.le_refl 0, Nat.le_refl 0⟩ rfl dX5_octet_22
  · replace hf := ie h2 hf
    refine j_aload_n dX5_octet_8 0 rfl ?_
    refine m_geta mf_1 rfl dX5_octet_9 ?_
    refine j_iload_n dX5_octet_12 1 rfl ?_
    obtain ⟨x1, hx1, hf⟩ := ob hf
    refine m_bald mr_1 hx1 dX5_octet_13 ?_
    refine j_sipush dX5_octet_14 (by decide) ?_
    refine j_iand dX5_octet_17 ?_
    refine j_goto 22 dX5_octet_18 (by decide) ?_
    replace hf := Option.some.inj hf
    subst hf
    exact j_ireturn (bM_mv G) ⟨Nat.le_refl 0, Nat.le_refl 0⟩ rfl dX5_octet_22
theorem c5_nextName_b67 {G : MG} {l : Launch} {a : List PV} {r : Mu} {Kf : Int × Mu → Option (Mu)} (kh : Int → Mu → Option (Int × Mu)) (hkh : ∀ (z1 : Int) (zu : Mu), ((kh z1 zu).bind Kf = some r) → J5 G l D5_nextName a none r zu 12 [(0, pR (some G.1)), (1, pI z1)] []) (hK0 : ∀ q : Int × Mu, Kf q = some r → J5 G l D5_nextName a none r q.2 83 [(0, pR (some G.1)), (1, pI q.1)] []) (v1 : Int) (u : Mu) (hf : (m5_nextName_b67 kh v1 u).bind Kf = some r) : J5 G l D5_nextName a none r u 67 [(0, pR (some G.1)), (1, pI v1)] [] := by
  unfold m5_nextName_b67 at hf
  refine j_iinc dX5_nextName_67 1 rfl [(1, pI (v1 + 1)), (0, pR (some G.1))] (Nat.le_of_ble_eq_true rfl) rfl ?_
  refine j_aload_n dX5_nextName_70 1 rfl ?_
  refine j_dup dX5_nextName_71 rfl ?_
  refine m_geti mf_3 rfl dX5_nextName_72 ?_
  refine j_iconst dX5_nextName_75 ?_
  refine j_iadd dX5_nextName_76 ?_
  obtain ⟨u1, hu1, hf⟩ := obb hf
  refine m_puti_ hu1 mf_3 mfw_3 rfl dX5_nextName_77 ?_
  refine j_goto 12 dX5_nextName_80 (by decide) ?_
  exact j_sub [1, 0] _ rfl (hkh (v1 + 1) u1 hf)
theorem c5_nextName_b40 {G : MG} {l : Launch} {a : List PV} {r : Mu} {Kf : Int × Mu → Option (Mu)} (kh : Int → Mu → Option (Int × Mu)) (hkh : ∀ (z1 : Int) (zu : Mu), ((kh z1 zu).bind Kf = some r) → J5 G l D5_nextName a none r zu 12 [(0, pR (some G.1)), (1, pI z1)] []) (hK0 : ∀ q : Int × Mu, Kf q = some r → J5 G l D5_nextName a none r q.2 83 [(0, pR (some G.1)), (1, pI q.1)] []) (v1 : Int) (u : Mu) (hf : (m5_nextName_b40 kh v1 u).bind Kf = some r) : J5 G l D5_nextName a none r u 40 [(0, pR (some G.1)), (1, pI v1)] [] := by
  unfold m5_nextName_b40 at hf
  refine j_iload_n dX5_nextName_40 1 rfl ?_
  refine j_bipush dX5_nextName_41 (by decide) ?_
  refine j_icmp_ge (w32 v1) 8 rfl rfl 67 dX5_nextName_43 (by decide) (fun h3 => ?_) (fun h3 => ?_)
  · replace hf := itb h3 hf
    exact j_sub [0, 1] _ rfl (c5_nextName_b67 (kh) hkh hK0 v1 u hf)
  · replace hf := ieb h3 hf
    refine j_aload_n dX5_nextName_46 0 rfl ?_
    refine j_aload_n dX5_nextName_47 0 rfl ?_
    refine m_getl mf_6 rfl dX5_nextName_48 ?_
    refine j_bipush dX5_nextName_51 (by decide) ?_
    refine j_lshl dX5_nextName_53 ?_
    refine j_aload_n dX5_nextName_54 0 rfl ?_
    refine j_aload_n dX5_nextName_55 0 rfl ?_
    refine m_geti mf_3 rfl dX5_nextName_56 ?_
    obtain ⟨x1, hx1, hf⟩ := obb hf
    refine j_cVr [pI (u.1 3)] [pL (shl64 (u.1 6) 7), pR (some G.1)] kT_v (bM_mv G) (c5_octet (u.1 3) u hx1) wv5_octet dv5_octet rfl ⟨(Nat.le_of_ble_eq_true rfl), (Nat.le_of_ble_eq_true rfl)⟩ (m_recv u) rfl (Nat.le_of_ble_eq_true rfl) dX5_nextName_59 ⟨Nat.le_refl 0, Nat.le_refl 0⟩ ?_
    refine j_i2l dX5_nextName_62 ?_
    refine j_lor dX5_nextName_63 ?_
    obtain ⟨u2, hu2, hf⟩ := obb hf
    refine m_putl_ hu2 mf_6 mfw_6 rfl dX5_nextName_64 ?_
    exact j_sub [0, 1] _ rfl (c5_nextName_b67 (kh) hkh hK0 v1 u2 hf)
theorem c5_nextName_l12 {G : MG} {l : Launch} {a : List PV} {r : Mu} {Kf : Int × Mu → Option (Mu)} (hK0 : ∀ q : Int × Mu, Kf q = some r → J5 G l D5_nextName a none r q.2 83 [(0, pR (some G.1)), (1, pI q.1)] []) : ∀ (n : Nat) (v1 : Int) (u : Mu), ((m5_nextName_l12 n v1 u).bind Kf = some r) → J5 G l D5_nextName a none r u 12 [(0, pR (some G.1)), (1, pI v1)] [] := by
  intro n
  induction n with
  | zero => intro v1 u hf; exact onb hf
  | succ n ih =>
    intro v1 u hf
    unfold m5_nextName_l12 at hf
    refine j_aload_n dX5_nextName_12 0 rfl ?_
    refine j_aload_n dX5_nextName_13 0 rfl ?_
    refine m_geti mf_3 rfl dX5_nextName_14 ?_
    obtain ⟨x1, hx1, hf⟩ := obb hf
    refine j_cVr [pI (u.1 3)] [] kT_v (bM_mv G) (c5_octet (u.1 3) u hx1) wv5_octet dv5_octet rfl ⟨(Nat.le_of_ble_eq_true rfl), (Nat.le_of_ble_eq_true rfl)⟩ (m_recv u) rfl (Nat.le_of_ble_eq_true rfl) dX5_nextName_17 ⟨Nat.le_refl 0, Nat.le_refl 0⟩ ?_
    obtain ⟨x2, hx2, hf⟩ := obb hf
    refine j_cSr [pI x1] [] kT_v (bM_mv G) (c5_isLetter x1 u hx2) wv5_isLetter dv5_isLetter rfl ⟨(Nat.le_of_ble_eq_true rfl), (Nat.le_of_ble_eq_true rfl)⟩ rfl (Nat.le_of_ble_eq_true rfl) dX5_nextName_20 ⟨Nat.le_refl 0, Nat.le_refl 0⟩ ?_
    refine j_if_ne (w32 x2) rfl 40 dX5_nextName_23 (by decide) (fun h6 => ?_) (fun h6 => ?_)
    · replace hf := ieb h6 hf
      exact j_sub [0, 1] _ rfl (c5_nextName_b40 (m5_nextName_l12 n) ih hK0 v1 u hf)
    · replace hf := itb h6 hf
      refine j_aload_n dX5_nextName_26 0 rfl ?_
      refine j_aload_n dX5_nextName_27 0 rfl ?_
      refine m_geti mf_3 rfl dX5_nextName_28 ?_
      obtain ⟨x3, hx3, hf⟩ := obb hf
      refine j_cVr [pI (u.1 3)] [] kT_v (bM_mv G) (c5_octet (u.1 3) u hx3) wv5_octet dv5_octet rfl ⟨(Nat.le_of_ble_eq_true rfl), (Nat.le_of_ble_eq_true rfl)⟩ (m_recv u) rfl (Nat.le_of_ble_eq_true rfl) dX5_nextName_31 ⟨Nat.le_refl 0, Nat.le_refl 0⟩ ?_
      obtain ⟨x4, hx4, hf⟩ := obb hf
      refine j_cSr [pI x3] [] kT_v (bM_mv G) (c5_isFigure x3 u hx4) wv5_isFigure dv5_isFigure rfl ⟨(Nat.le_of_ble_eq_true rfl), (Nat.le_of_ble_eq_true rfl)⟩ rfl (Nat.le_of_ble_eq_true rfl) dX5_nextName_34 ⟨Nat.le_refl 0, Nat.le_refl 0⟩ ?_
      refine j_if_eq (w32 x4) rfl 83 dX5_nextName_37 (by decide) (fun h5 => ?_) (fun h5 => ?_)
      · replace hf := itb h5 hf
        exact j_sub [0, 1] _ rfl (hK0 (v1, u) hf)
      · replace hf := ieb h5 hf
        exact j_sub [0, 1] _ rfl (c5_nextName_b40 (m5_nextName_l12 n) ih hK0 v1 u hf)
theorem c5_nextName_l96 {G : MG} {l : Launch} {a : List PV} {r : Mu} {Kf : Mu → Option (Mu)} (hK0 : ∀ q : Mu, Kf q = some r → J5 G l D5_nextName a none r q 140 [] []) : ∀ (n : Nat) (v2 : Int) (u : Mu), ((m5_nextName_l96 n v2 u).bind Kf = some r) → J5 G l D5_nextName a none r u 96 [(0, pR (some G.1)), (2, pI v2)] [] := by
  intro n
  induction n with
  | zero => intro v2 u hf; exact onb hf
  | succ n ih =>
    intro v2 u hf
    unfold m5_nextName_l96 at hf
    refine j_iload_n dX5_nextName_96 1 rfl ?_
    refine j_bipush dX5_nextName_97 (by decide) ?_
    refine j_icmp_ge (w32 v2) 29 rfl rfl 140 dX5_nextName_99 (by decide) (fun h6 => ?_) (fun h6 => ?_)
    · replace hf := itb h6 hf
      exact j_sub [] _ rfl (hK0 u hf)
    · replace hf := ieb h6 hf
      refine j_aload_n dX5_nextName_102 0 rfl ?_
      refine m_geti mf_4 rfl dX5_nextName_103 ?_
      refine j_iconst dX5_nextName_106 ?_
      refine j_icmp_ne (w32 (u.1 4)) 1 rfl rfl 140 dX5_nextName_107 (by decide) (fun h5 => ?_) (fun h5 => ?_)
      · replace hf := ieb h5 hf
        exact j_sub [] _ rfl (hK0 u hf)
      · replace hf := itb h5 hf
        refine j_aload_n dX5_nextName_110 0 rfl ?_
        refine m_geta mf_0 rfl dX5_nextName_111 ?_
        refine j_iload_n dX5_nextName_114 1 rfl ?_
        obtain ⟨x1, hx1, hf⟩ := obb hf
        refine m_lald mr_0 hx1 dX5_nextName_115 ?_
        refine j_aload_n dX5_nextName_116 0 rfl ?_
        refine m_getl mf_6 rfl dX5_nextName_117 ?_
        refine j_lc_ne 134 dX5_nextName_120 dX5_nextName_121 (by decide) (fun h4 => ?_) (fun h4 => ?_)
        · replace hf := ieb h4 hf
          refine j_iinc dX5_nextName_134 1 rfl [(2, pI (v2 + 1)), (0, pR (some G.1))] (Nat.le_of_ble_eq_true rfl) rfl ?_
          refine j_goto 96 dX5_nextName_137 (by decide) ?_
          exact j_sub [1, 0] _ rfl (ih (v2 + 1) u hf)
        · replace hf := itb h4 hf
          refine j_aload_n dX5_nextName_124 0 rfl ?_
          refine j_iconst dX5_nextName_125 ?_
          obtain ⟨u2, hu2, hf⟩ := obb hf
          refine m_puti_ hu2 mf_4 mfw_4 rfl dX5_nextName_126 ?_
          refine j_aload_n dX5_nextName_129 0 rfl ?_
          refine j_iload_n dX5_nextName_130 1 rfl ?_
          obtain ⟨u3, hu3, hf⟩ := obb hf
          refine m_puti_ hu3 mf_7 mfw_7 rfl dX5_nextName_131 ?_
          refine j_iinc dX5_nextName_134 1 rfl [(2, pI (v2 + 1)), (0, pR (some G.1))] (Nat.le_of_ble_eq_true rfl) rfl ?_
          refine j_goto 96 dX5_nextName_137 (by decide) ?_
          exact j_sub [1, 0] _ rfl (ih (v2 + 1) u3 hf)
theorem c5_nextName_b94 {G : MG} {l : Launch} {a : List PV} {r : Mu} (u : Mu) (hf : m5_nextName_b94 u = some r) : J5 G l D5_nextName a none r u 94 [(0, pR (some G.1))] [] := by
  unfold m5_nextName_b94 at hf
  refine j_iconst dX5_nextName_94 ?_
  refine j_istore_n dX5_nextName_95 [(2, pI 0), (0, pR (some G.1))] (Nat.le_of_ble_eq_true rfl) rfl ?_
  refine j_sub [1, 0] _ rfl (c5_nextName_l96 ?_ NN 0 u hf)
  · intro q1 hf
    replace hf := Option.some.inj hf
    subst hf
    exact j_return (bM_mv G) ⟨Nat.le_refl 0, Nat.le_refl 0⟩ rfl dX5_nextName_140
theorem c5_nextName {G : MG} {l : Launch} {r : Mu}  (u : Mu) (hf : m5_nextName u = some r) : JM kT (bM G) (aM G) l yX5_nextName D5_nextName [pR (some G.1)] u none r 0 0 := by
  refine j_met (lv0 := [(0, pR (some G.1))]) ⟨pl_X5, rfl, rfl, (Nat.le_of_ble_eq_true rfl), rfl⟩ ?_
  unfold m5_nextName at hf
  refine j_aload_n dX5_nextName_0 0 rfl ?_
  refine j_iconst dX5_nextName_1 ?_
  obtain ⟨u1, hu1, hf⟩ := ob hf
  refine m_puti_ hu1 mf_4 mfw_4 rfl dX5_nextName_2 ?_
  refine j_aload_n dX5_nextName_5 0 rfl ?_
  refine j_lconst (z := 0) dX5_nextName_6 rfl ?_
  obtain ⟨u2, hu2, hf⟩ := ob hf
  refine m_putl_ hu2 mf_6 mfw_6 rfl dX5_nextName_7 ?_
  refine j_iconst dX5_nextName_10 ?_
  refine j_istore_n dX5_nextName_11 [(1, pI 0), (0, pR (some G.1))] (Nat.le_of_ble_eq_true rfl) rfl ?_
  refine j_sub [1, 0] _ rfl (c5_nextName_l12 ?_ NN 0 u2 hf)
  · intro q3 hf
    refine j_iload_n dX5_nextName_83 1 rfl ?_
    refine j_bipush dX5_nextName_84 (by decide) ?_
    refine j_icmp_le (w32 q3.1) 8 rfl rfl 94 dX5_nextName_86 (by decide) (fun h5 => ?_) (fun h5 => ?_)
    · replace hf := it h5 hf
      exact j_sub [0] _ rfl (c5_nextName_b94 q3.2 hf)
    · replace hf := ie h5 hf
      refine j_aload_n dX5_nextName_89 0 rfl ?_
      refine j_iconst dX5_nextName_90 ?_
      obtain ⟨u4, hu4, hf⟩ := ob hf
      refine m_puti_ hu4 mf_4 mfw_4 rfl dX5_nextName_91 ?_
      exact j_sub [0] _ rfl (c5_nextName_b94 u4 hf)
theorem c5_nextNumber_b55 {G : MG} {l : Launch} {a : List PV} {r : Mu} {Kf : Int × Mu → Option (Mu)} (kh : Int → Mu → Option (Int × Mu)) (hkh : ∀ (z1 : Int) (zu : Mu), ((kh z1 zu).bind Kf = some r) → J5 G l D5_nextNumber a none r zu 12 [(0, pR (some G.1)), (1, pI z1)] []) (hK0 : ∀ q : Int × Mu, Kf q = some r → J5 G l D5_nextNumber a none r q.2 71 [(0, pR (some G.1)), (1, pI q.1)] []) (v1 : Int) (u : Mu) (hf : (m5_nextNumber_b55 kh v1 u).bind Kf = some r) : J5 G l D5_nextNumber a none r u 55 [(0, pR (some G.1)), (1, pI v1)] [] := by
  unfold m5_nextNumber_b55 at hf
  refine j_iinc dX5_nextNumber_55 1 rfl [(1, pI (v1 + 1)), (0, pR (some G.1))] (Nat.le_of_ble_eq_true rfl) rfl ?_
  refine j_aload_n dX5_nextNumber_58 1 rfl ?_
  refine j_dup dX5_nextNumber_59 rfl ?_
  refine m_geti mf_3 rfl dX5_nextNumber_60 ?_
  refine j_iconst dX5_nextNumber_63 ?_
  refine j_iadd dX5_nextNumber_64 ?_
  obtain ⟨u1, hu1, hf⟩ := obb hf
  refine m_puti_ hu1 mf_3 mfw_3 rfl dX5_nextNumber_65 ?_
  refine j_goto 12 dX5_nextNumber_68 (by decide) ?_
  exact j_sub [1, 0] _ rfl (hkh (v1 + 1) u1 hf)
theorem c5_nextNumber_l12 {G : MG} {l : Launch} {a : List PV} {r : Mu} {Kf : Int × Mu → Option (Mu)} (hK0 : ∀ q : Int × Mu, Kf q = some r → J5 G l D5_nextNumber a none r q.2 71 [(0, pR (some G.1)), (1, pI q.1)] []) : ∀ (n : Nat) (v1 : Int) (u : Mu), ((m5_nextNumber_l12 n v1 u).bind Kf = some r) → J5 G l D5_nextNumber a none r u 12 [(0, pR (some G.1)), (1, pI v1)] [] := by
  intro n
  induction n with
  | zero => intro v1 u hf; exact onb hf
  | succ n ih =>
    intro v1 u hf
    unfold m5_nextNumber_l12 at hf
    refine j_aload_n dX5_nextNumber_12 0 rfl ?_
    refine j_aload_n dX5_nextNumber_13 0 rfl ?_
    refine m_geti mf_3 rfl dX5_nextNumber_14 ?_
    obtain ⟨x1, hx1, hf⟩ := obb hf
    refine j_cVr [pI (u.1 3)] [] kT_v (bM_mv G) (c5_octet (u.1 3) u hx1) wv5_octet dv5_octet rfl ⟨(Nat.le_of_ble_eq_true rfl), (Nat.le_of_ble_eq_true rfl)⟩ (m_recv u) rfl (Nat.le_of_ble_eq_true rfl) dX5_nextNumber_17 ⟨Nat.le_refl 0, Nat.le_refl 0⟩ ?_
    obtain ⟨x2, hx2, hf⟩ := obb hf
    refine j_cSr [pI x1] [] kT_v (bM_mv G) (c5_isFigure x1 u hx2) wv5_isFigure dv5_isFigure rfl ⟨(Nat.le_of_ble_eq_true rfl), (Nat.le_of_ble_eq_true rfl)⟩ rfl (Nat.le_of_ble_eq_true rfl) dX5_nextNumber_20 ⟨Nat.le_refl 0, Nat.le_refl 0⟩ ?_
    refine j_if_eq (w32 x2) rfl 71 dX5_nextNumber_23 (by decide) (fun h6 => ?_) (fun h6 => ?_)
    · replace hf := itb h6 hf
      exact j_sub [0, 1] _ rfl (hK0 (v1, u) hf)
    · replace hf := ieb h6 hf
      refine j_iload_n dX5_nextNumber_26 1 rfl ?_
      refine j_bipush dX5_nextNumber_27 (by decide) ?_
      refine j_icmp_ge (w32 v1) 9 rfl rfl 55 dX5_nextNumber_29 (by decide) (fun h5 => ?_) (fun h5 => ?_)
      · replace hf := itb h5 hf
        exact j_sub [0, 1] _ rfl (c5_nextNumber_b55 (m5_nextNumber_l12 n) ih hK0 v1 u hf)
      · replace hf := ieb h5 hf
        refine j_aload_n dX5_nextNumber_32 0 rfl ?_
        refine j_aload_n dX5_nextNumber_33 0 rfl ?_
        refine m_geti mf_7 rfl dX5_nextNumber_34 ?_
        refine j_bipush dX5_nextNumber_37 (by decide) ?_
        refine j_imul dX5_nextNumber_39 ?_
        refine j_aload_n dX5_nextNumber_40 0 rfl ?_
        refine j_aload_n dX5_nextNumber_41 0 rfl ?_
        refine m_geti mf_3 rfl dX5_nextNumber_42 ?_
        obtain ⟨x3, hx3, hf⟩ := obb hf
        refine j_cVr [pI (u.1 3)] [pI ((u.1 7) * 10), pR (some G.1)] kT_v (bM_mv G) (c5_octet (u.1 3) u hx3) wv5_octet dv5_octet rfl ⟨(Nat.le_of_ble_eq_true rfl), (Nat.le_of_ble_eq_true rfl)⟩ (m_recv u) rfl (Nat.le_of_ble_eq_true rfl) dX5_nextNumber_45 ⟨Nat.le_refl 0, Nat.le_refl 0⟩ ?_
        refine j_iadd dX5_nextNumber_48 ?_
        refine j_bipush dX5_nextNumber_49 (by decide) ?_
        refine j_isub dX5_nextNumber_51 ?_
        obtain ⟨u4, hu4, hf⟩ := obb hf
        refine m_puti_ hu4 mf_7 mfw_7 rfl dX5_nextNumber_52 ?_
        exact j_sub [0, 1] _ rfl (c5_nextNumber_b55 (m5_nextNumber_l12 n) ih hK0 v1 u4 hf)
theorem c5_nextNumber {G : MG} {l : Launch} {r : Mu}  (u : Mu) (hf : m5_nextNumber u = some r) : JM kT (bM G) (aM G) l yX5_nextNumber D5_nextNumber [pR (some G.1)] u none r 0 0 := by
  refine j_met (lv0 := [(0, pR (some G.1))]) ⟨pl_X5, rfl, rfl, (Nat.le_of_ble_eq_true rfl), rfl⟩ ?_
  unfold m5_nextNumber at hf
  refine j_aload_n dX5_nextNumber_0 0 rfl ?_
  refine j_iconst dX5_nextNumber_1 ?_
  obtain ⟨u1, hu1, hf⟩ := ob hf
  refine m_puti_ hu1 mf_4 mfw_4 rfl dX5_nextNumber_2 ?_
  refine j_aload_n dX5_nextNumber_5 0 rfl ?_
  refine j_iconst dX5_nextNumber_6 ?_
  obtain ⟨u2, hu2, hf⟩ := ob hf
  refine m_puti_ hu2 mf_7 mfw_7 rfl dX5_nextNumber_7 ?_
  refine j_iconst dX5_nextNumber_10 ?_
  refine j_istore_n dX5_nextNumber_11 [(1, pI 0), (0, pR (some G.1))] (Nat.le_of_ble_eq_true rfl) rfl ?_
  refine j_sub [1, 0] _ rfl (c5_nextNumber_l12 ?_ NN 0 u2 hf)
  · intro q3 hf
    refine j_iload_n dX5_nextNumber_71 1 rfl ?_
    refine j_bipush dX5_nextNumber_72 (by decide) ?_
    refine j_icmp_le (w32 q3.1) 9 rfl rfl 82 dX5_nextNumber_74 (by decide) (fun h5 => ?_) (fun h5 => ?_)
    · replace hf := it h5 hf
      replace hf := Option.some.inj hf
      subst hf
      exact j_return (bM_mv G) ⟨Nat.le_refl 0, Nat.le_refl 0⟩ rfl dX5_nextNumber_82
    · replace hf := ie h5 hf
      refine j_aload_n dX5_nextNumber_77 0 rfl ?_
      refine j_iconst dX5_nextNumber_78 ?_
      obtain ⟨u4, hu4, hf⟩ := ob hf
      refine m_puti_ hu4 mf_4 mfw_4 rfl dX5_nextNumber_79 ?_
      replace hf := Option.some.inj hf
      subst hf
      exact j_return (bM_mv G) ⟨Nat.le_refl 0, Nat.le_refl 0⟩ rfl dX5_nextNumber_82
theorem c5_nextSign_b119 {G : MG} {l : Launch} {a : List PV} {r : Mu} (s1 : Int) (s2 : Int) (u : Mu) (hf : m5_nextSign_b119 s1 s2 u = some r) : J5 G l D5_nextSign a none r u 119 [] [pI s2, pI s1, pR (some G.1)] := by
  unfold m5_nextSign_b119 at hf
  refine j_iadd dX5_nextSign_119 ?_
  obtain ⟨u1, hu1, hf⟩ := ob hf
  refine m_puti_ hu1 mf_3 mfw_3 rfl dX5_nextSign_120 ?_
  refine j_goto 205 dX5_nextSign_123 (by decide) ?_
  replace hf := Option.some.inj hf
  subst hf
  exact j_return (bM_mv G) ⟨Nat.le_refl 0, Nat.le_refl 0⟩ rfl dX5_nextSign_205
theorem c5_nextSign_b98 {G : MG} {l : Launch} {a : List PV} {r : Mu} (s1 : Int) (u : Mu) (hf : m5_nextSign_b98 s1 u = some r) : J5 G l D5_nextSign a none r u 98 [(0, pR (some G.1))] [pI s1, pR (some G.1)] := by
  unfold m5_nextSign_b98 at hf
  obtain ⟨u1, hu1, hf⟩ := ob hf
  refine m_puti_ hu1 mf_7 mfw_7 rfl dX5_nextSign_98 ?_
  refine j_aload_n dX5_nextSign_101 0 rfl ?_
  refine j_dup dX5_nextSign_102 rfl ?_
  refine m_geti mf_3 rfl dX5_nextSign_103 ?_
  refine j_aload_n dX5_nextSign_106 0 rfl ?_
  refine m_geti mf_7 rfl dX5_nextSign_107 ?_
  refine j_iconst dX5_nextSign_110 ?_
  refine j_icmp_ne (w32 (u1.1 7)) 2 rfl rfl 118 dX5_nextSign_111 (by decide) (fun h2 => ?_) (fun h2 => ?_)
  · replace hf := ie h2 hf
    refine j_iconst dX5_nextSign_118 ?_
    exact j_sub [] _ rfl (c5_nextSign_b119 (u1.1 3) 1 u1 hf)
  · replace hf := it h2 hf
    refine j_iconst dX5_nextSign_114 ?_
    refine j_goto 119 dX5_nextSign_115 (by decide) ?_
    exact j_sub [] _ rfl (c5_nextSign_b119 (u1.1 3) 0 u1 hf)
theorem c5_nextSign_b73 {G : MG} {l : Launch} {a : List PV} {r : Mu} (s1 : Int) (s2 : Int) (u : Mu) (hf : m5_nextSign_b73 s1 s2 u = some r) : J5 G l D5_nextSign a none r u 73 [] [pI s2, pI s1, pR (some G.1)] := by
  unfold m5_nextSign_b73 at hf
  refine j_iadd dX5_nextSign_73 ?_
  obtain ⟨u1, hu1, hf⟩ := ob hf
  refine m_puti_ hu1 mf_3 mfw_3 rfl dX5_nextSign_74 ?_
  refine j_goto 205 dX5_nextSign_77 (by decide) ?_
  replace hf := Option.some.inj hf
  subst hf
  exact j_return (bM_mv G) ⟨Nat.le_refl 0, Nat.le_refl 0⟩ rfl dX5_nextSign_205
theorem c5_nextSign_b52 {G : MG} {l : Launch} {a : List PV} {r : Mu} (s1 : Int) (u : Mu) (hf : m5_nextSign_b52 s1 u = some r) : J5 G l D5_nextSign a none r u 52 [(0, pR (some G.1))] [pI s1, pR (some G.1)] := by
  unfold m5_nextSign_b52 at hf
  obtain ⟨u1, hu1, hf⟩ := ob hf
  refine m_puti_ hu1 mf_7 mfw_7 rfl dX5_nextSign_52 ?_
  refine j_aload_n dX5_nextSign_55 0 rfl ?_
  refine j_dup dX5_nextSign_56 rfl ?_
  refine m_geti mf_3 rfl dX5_nextSign_57 ?_
  refine j_aload_n dX5_nextSign_60 0 rfl ?_
  refine m_geti mf_7 rfl dX5_nextSign_61 ?_
  refine j_iconst dX5_nextSign_64 ?_
  refine j_icmp_ne (w32 (u1.1 7)) 1 rfl rfl 72 dX5_nextSign_65 (by decide) (fun h2 => ?_) (fun h2 => ?_)
  · replace hf := ie h2 hf
    refine j_iconst dX5_nextSign_72 ?_
    exact j_sub [] _ rfl (c5_nextSign_b73 (u1.1 3) 1 u1 hf)
  · replace hf := it h2 hf
    refine j_iconst dX5_nextSign_68 ?_
    refine j_goto 73 dX5_nextSign_69 (by decide) ?_
    exact j_sub [] _ rfl (c5_nextSign_b73 (u1.1 3) 0 u1 hf)
theorem c5_nextSign {G : MG} {l : Launch} {r : Mu} (v1 : Int) (u : Mu) (hf : m5_nextSign v1 u = some r) : JM kT (bM G) (aM G) l yX5_nextSign D5_nextSign [pR (some G.1), pI v1] u none r 0 0 := by
  refine j_met (lv0 := [(0, pR (some G.1)), (1, pI v1)]) ⟨pl_X5, rfl, rfl, (Nat.le_of_ble_eq_true rfl), rfl⟩ ?_
  unfold m5_nextSign at hf
  refine j_aload_n dX5_nextSign_0 0 rfl ?_
  refine j_iconst dX5_nextSign_1 ?_
  obtain ⟨u1, hu1, hf⟩ := ob hf
  refine m_puti_ hu1 mf_4 mfw_4 rfl dX5_nextSign_2 ?_
  refine j_aload_n dX5_nextSign_5 0 rfl ?_
  refine j_dup dX5_nextSign_6 rfl ?_
  refine m_geti mf_3 rfl dX5_nextSign_7 ?_
  refine j_iconst dX5_nextSign_10 ?_
  refine j_iadd dX5_nextSign_11 ?_
  obtain ⟨u2, hu2, hf⟩ := ob hf
  refine m_puti_ hu2 mf_3 mfw_3 rfl dX5_nextSign_12 ?_
  refine j_aload_n dX5_nextSign_15 0 rfl ?_
  refine j_aload_n dX5_nextSign_16 0 rfl ?_
  refine m_geti mf_3 rfl dX5_nextSign_17 ?_
  obtain ⟨x3, hx3, hf⟩ := ob hf
  refine j_cVr [pI (u2.1 3)] [] kT_v (bM_mv G) (c5_octet (u2.1 3) u2 hx3) wv5_octet dv5_octet rfl ⟨(Nat.le_of_ble_eq_true rfl), (Nat.le_of_ble_eq_true rfl)⟩ (m_recv u2) rfl (Nat.le_of_ble_eq_true rfl) dX5_nextSign_20 ⟨Nat.le_refl 0, Nat.le_refl 0⟩ ?_
  refine j_istore_n dX5_nextSign_23 [(2, pI x3), (0, pR (some G.1)), (1, pI v1)] (Nat.le_of_ble_eq_true rfl) rfl ?_
  refine j_iload_n dX5_nextSign_24 2 rfl ?_
  refine j_bipush dX5_nextSign_25 (by decide) ?_
  refine j_icmp_ne (w32 v1) 60 rfl rfl 80 dX5_nextSign_27 (by decide) (fun h19 => ?_) (fun h19 => ?_)
  · replace hf := ie h19 hf
    refine j_iload_n dX5_nextSign_80 2 rfl ?_
    refine j_bipush dX5_nextSign_81 (by decide) ?_
    refine j_icmp_ne (w32 v1) 62 rfl rfl 126 dX5_nextSign_83 (by decide) (fun h16 => ?_) (fun h16 => ?_)
    · replace hf := ie h16 hf
      refine j_iload_n dX5_nextSign_126 2 rfl ?_
      refine j_bipush dX5_nextSign_127 (by decide) ?_
      refine j_icmp_ne (w32 v1) 61 rfl rfl 140 dX5_nextSign_129 (by decide) (fun h14 => ?_) (fun h14 => ?_)
      · replace hf := ie h14 hf
        refine j_iload_n dX5_nextSign_140 2 rfl ?_
        refine j_bipush dX5_nextSign_141 (by decide) ?_
        refine j_icmp_ne (w32 v1) 59 rfl rfl 155 dX5_nextSign_143 (by decide) (fun h12 => ?_) (fun h12 => ?_)
        · replace hf := ie h12 hf
          refine j_iload_n dX5_nextSign_155 2 rfl ?_
          refine j_bipush dX5_nextSign_156 (by decide) ?_
          refine j_icmp_ne (w32 v1) 44 rfl rfl 170 dX5_nextSign_158 (by decide) (fun h10 => ?_) (fun h10 => ?_)
          · replace hf := ie h10 hf
            refine j_iload_n dX5_nextSign_170 2 rfl ?_
            refine j_bipush dX5_nextSign_171 (by decide) ?_
            refine j_icmp_ne (w32 v1) 40 rfl rfl 185 dX5_nextSign_173 (by decide) (fun h8 => ?_) (fun h8 => ?_)
            · replace hf := ie h8 hf
              refine j_iload_n dX5_nextSign_185 2 rfl ?_
              refine j_bipush dX5_nextSign_186 (by decide) ?_
              refine j_icmp_ne (w32 v1) 41 rfl rfl 200 dX5_nextSign_188 (by decide) (fun h6 => ?_) (fun h6 => ?_)
              · replace hf := ie h6 hf
                refine j_aload_n dX5_nextSign_200 1 rfl ?_
                refine j_iconst dX5_nextSign_201 ?_
                obtain ⟨u4, hu4, hf⟩ := ob hf
                refine m_puti_ hu4 mf_4 mfw_4 rfl dX5_nextSign_202 ?_
                replace hf := Option.some.inj hf
                subst hf
                exact j_return (bM_mv G) ⟨Nat.le_refl 0, Nat.le_refl 0⟩ rfl dX5_nextSign_205
              · replace hf := it h6 hf
                refine j_aload_n dX5_nextSign_191 1 rfl ?_
                refine j_bipush dX5_nextSign_192 (by decide) ?_
                obtain ⟨u5, hu5, hf⟩ := ob hf
                refine m_puti_ hu5 mf_7 mfw_7 rfl dX5_nextSign_194 ?_
                refine j_goto 205 dX5_nextSign_197 (by decide) ?_
                replace hf := Option.some.inj hf
                subst hf
                exact j_return (bM_mv G) ⟨Nat.le_refl 0, Nat.le_refl 0⟩ rfl dX5_nextSign_205
            · replace hf := it h8 hf
              refine j_aload_n dX5_nextSign_176 1 rfl ?_
              refine j_bipush dX5_nextSign_177 (by decide) ?_
              obtain ⟨u7, hu7, hf⟩ := ob hf
              refine m_puti_ hu7 mf_7 mfw_7 rfl dX5_nextSign_179 ?_
              refine j_goto 205 dX5_nextSign_182 (by decide) ?_
              replace hf := Option.some.inj hf
              subst hf
              exact j_return (bM_mv G) ⟨Nat.le_refl 0, Nat.le_refl 0⟩ rfl dX5_nextSign_205
          · replace hf := it h10 hf
            refine j_aload_n dX5_nextSign_161 1 rfl ?_
            refine j_bipush dX5_nextSign_162 (by decide) ?_
            obtain ⟨u9, hu9, hf⟩ := ob hf
            refine m_puti_ hu9 mf_7 mfw_7 rfl dX5_nextSign_164 ?_
            refine j_goto 205 dX5_nextSign_167 (by decide) ?_
            replace hf := Option.some.inj hf
            subst hf
            exact j_return (bM_mv G) ⟨Nat.le_refl 0, Nat.le_refl 0⟩ rfl dX5_nextSign_205
        · replace hf := it h12 hf
          refine j_aload_n dX5_nextSign_146 1 rfl ?_
          refine j_bipush dX5_nextSign_147 (by decide) ?_
          obtain ⟨u11, hu11, hf⟩ := ob hf
          refine m_puti_ hu11 mf_7 mfw_7 rfl dX5_nextSign_149 ?_
          refine j_goto 205 dX5_nextSign_152 (by decide) ?_
          replace hf := Option.some.inj hf
          subst hf
          exact j_return (bM_mv G) ⟨Nat.le_refl 0, Nat.le_refl 0⟩ rfl dX5_nextSign_205
      · replace hf := it h14 hf
        refine j_aload_n dX5_nextSign_132 1 rfl ?_
        refine j_iconst dX5_nextSign_133 ?_
        obtain ⟨u13, hu13, hf⟩ := ob hf
        refine m_puti_ hu13 mf_7 mfw_7 rfl dX5_nextSign_134 ?_
        refine j_goto 205 dX5_nextSign_137 (by decide) ?_
        replace hf := Option.some.inj hf
        subst hf
        exact j_return (bM_mv G) ⟨Nat.le_refl 0, Nat.le_refl 0⟩ rfl dX5_nextSign_205
    · replace hf := it h16 hf
      refine j_aload_n dX5_nextSign_86 1 rfl ?_
      refine j_iload_n dX5_nextSign_87 0 rfl ?_
      refine j_bipush dX5_nextSign_88 (by decide) ?_
      refine j_icmp_ne (w32 x3) 61 rfl rfl 97 dX5_nextSign_90 (by decide) (fun h15 => ?_) (fun h15 => ?_)
      · replace hf := ie h15 hf
        refine j_iconst dX5_nextSign_97 ?_
        exact j_sub [1] _ rfl (c5_nextSign_b98 2 u2 hf)
      · replace hf := it h15 hf
        refine j_iconst dX5_nextSign_93 ?_
        refine j_goto 98 dX5_nextSign_94 (by decide) ?_
        exact j_sub [1] _ rfl (c5_nextSign_b98 4 u2 hf)
  · replace hf := it h19 hf
    refine j_aload_n dX5_nextSign_30 1 rfl ?_
    refine j_iload_n dX5_nextSign_31 0 rfl ?_
    refine j_bipush dX5_nextSign_32 (by decide) ?_
    refine j_icmp_ne (w32 x3) 61 rfl rfl 41 dX5_nextSign_34 (by decide) (fun h18 => ?_) (fun h18 => ?_)
    · replace hf := ie h18 hf
      refine j_iload_n dX5_nextSign_41 0 rfl ?_
      refine j_bipush dX5_nextSign_42 (by decide) ?_
      refine j_icmp_ne (w32 x3) 62 rfl rfl 51 dX5_nextSign_44 (by decide) (fun h17 => ?_) (fun h17 => ?_)
      · replace hf := ie h17 hf
        refine j_iconst dX5_nextSign_51 ?_
        exact j_sub [1] _ rfl (c5_nextSign_b52 1 u2 hf)
      · replace hf := it h17 hf
        refine j_iconst dX5_nextSign_47 ?_
        refine j_goto 52 dX5_nextSign_48 (by decide) ?_
        exact j_sub [1] _ rfl (c5_nextSign_b52 5 u2 hf)
    · replace hf := it h18 hf
      refine j_iconst dX5_nextSign_37 ?_
      refine j_goto 52 dX5_nextSign_38 (by decide) ?_
      exact j_sub [1] _ rfl (c5_nextSign_b52 3 u2 hf)
theorem c5_next_b39 {G : MG} {l : Launch} {a : List PV} {r : Mu} {Kf : Mu → Option (Mu)} (kh : Int → Mu → Option (Mu)) (hkh : ∀ (z1 : Int) (zu : Mu), ((kh z1 zu).bind Kf = some r) → J5 G l D5_next a none r zu 2 [(0, pR (some G.1)), (1, pI z1)] []) (hK0 : ∀ q : Mu, Kf q = some r → J5 G l D5_next a none r q 100 [(0, pR (some G.1))] []) (v1 : Int) (u : Mu) (hf : (m5_next_b39 kh v1 u).bind Kf = some r) : J5 G l D5_next a none r u 39 [(0, pR (some G.1)), (1, pI v1)] [] := by
  unfold m5_next_b39 at hf
  refine j_aload_n dX5_next_39 0 rfl ?_
  refine j_dup dX5_next_40 rfl ?_
  refine m_geti mf_3 rfl dX5_next_41 ?_
  refine j_iconst dX5_next_44 ?_
  refine j_iadd dX5_next_45 ?_
  obtain ⟨u1, hu1, hf⟩ := obb hf
  refine m_puti_ hu1 mf_3 mfw_3 rfl dX5_next_46 ?_
  refine j_goto 97 dX5_next_49 (by decide) ?_
  refine j_goto 2 dX5_next_97 (by decide) ?_
  exact j_sub [0, 1] _ rfl (hkh v1 u1 hf)
theorem c5_next_l58 {G : MG} {l : Launch} {a : List PV} {r : Mu} {Kf : Mu → Option (Mu)} (v1 : Int) (hK0 : ∀ q : Mu, Kf q = some r → J5 G l D5_next a none r q 97 [(0, pR (some G.1)), (1, pI v1)] []) : ∀ (n : Nat) (u : Mu), ((m5_next_l58 v1 n u).bind Kf = some r) → J5 G l D5_next a none r u 58 [(0, pR (some G.1)), (1, pI v1)] [] := by
  intro n
  induction n with
  | zero => intro u hf; exact onb hf
  | succ n ih =>
    intro u hf
    unfold m5_next_l58 at hf
    refine j_aload_n dX5_next_58 0 rfl ?_
    refine j_aload_n dX5_next_59 0 rfl ?_
    refine m_geti mf_3 rfl dX5_next_60 ?_
    obtain ⟨x1, hx1, hf⟩ := obb hf
    refine j_cVr [pI (u.1 3)] [] kT_v (bM_mv G) (c5_octet (u.1 3) u hx1) wv5_octet dv5_octet rfl ⟨(Nat.le_of_ble_eq_true rfl), (Nat.le_of_ble_eq_true rfl)⟩ (m_recv u) rfl (Nat.le_of_ble_eq_true rfl) dX5_next_63 ⟨Nat.le_refl 0, Nat.le_refl 0⟩ ?_
    refine j_if_lt (w32 x1) rfl 97 dX5_next_66 (by decide) (fun h5 => ?_) (fun h5 => ?_)
    · replace hf := itb h5 hf
      exact j_sub [0, 1] _ rfl (hK0 u hf)
    · replace hf := ieb h5 hf
      refine j_aload_n dX5_next_69 0 rfl ?_
      refine j_aload_n dX5_next_70 0 rfl ?_
      refine m_geti mf_3 rfl dX5_next_71 ?_
      obtain ⟨x2, hx2, hf⟩ := obb hf
      refine j_cVr [pI (u.1 3)] [] kT_v (bM_mv G) (c5_octet (u.1 3) u hx2) wv5_octet dv5_octet rfl ⟨(Nat.le_of_ble_eq_true rfl), (Nat.le_of_ble_eq_true rfl)⟩ (m_recv u) rfl (Nat.le_of_ble_eq_true rfl) dX5_next_74 ⟨Nat.le_refl 0, Nat.le_refl 0⟩ ?_
      refine j_bipush dX5_next_77 (by decide) ?_
      refine j_icmp_eq (w32 x2) 10 rfl rfl 97 dX5_next_79 (by decide) (fun h4 => ?_) (fun h4 => ?_)
      · replace hf := itb h4 hf
        exact j_sub [0, 1] _ rfl (hK0 u hf)
      · replace hf := ieb h4 hf
        refine j_aload_n dX5_next_82 0 rfl ?_
        refine j_dup dX5_next_83 rfl ?_
        refine m_geti mf_3 rfl dX5_next_84 ?_
        refine j_iconst dX5_next_87 ?_
        refine j_iadd dX5_next_88 ?_
        obtain ⟨u3, hu3, hf⟩ := obb hf
        refine m_puti_ hu3 mf_3 mfw_3 rfl dX5_next_89 ?_
        refine j_goto 58 dX5_next_92 (by decide) ?_
        exact j_sub [0, 1] _ rfl (ih u3 hf)
theorem c5_next_l2 {G : MG} {l : Launch} {a : List PV} {r : Mu} {Kf : Mu → Option (Mu)} (hK0 : ∀ q : Mu, Kf q = some r → J5 G l D5_next a none r q 100 [(0, pR (some G.1))] []) : ∀ (n : Nat) (v1 : Int) (u : Mu), ((m5_next_l2 n v1 u).bind Kf = some r) → J5 G l D5_next a none r u 2 [(0, pR (some G.1)), (1, pI v1)] [] := by
  intro n
  induction n with
  | zero => intro v1 u hf; exact onb hf
  | succ n ih =>
    intro v1 u hf
    unfold m5_next_l2 at hf
    refine j_iload_n dX5_next_2 1 rfl ?_
    refine j_if_eq (w32 v1) rfl 100 dX5_next_3 (by decide) (fun h8 => ?_) (fun h8 => ?_)
    · replace hf := itb h8 hf
      exact j_sub [0] _ rfl (hK0 u hf)
    · replace hf := ieb h8 hf
      refine j_aload_n dX5_next_6 0 rfl ?_
      refine j_aload_n dX5_next_7 0 rfl ?_
      refine m_geti mf_3 rfl dX5_next_8 ?_
      obtain ⟨x1, hx1, hf⟩ := obb hf
      refine j_cVr [pI (u.1 3)] [] kT_v (bM_mv G) (c5_octet (u.1 3) u hx1) wv5_octet dv5_octet rfl ⟨(Nat.le_of_ble_eq_true rfl), (Nat.le_of_ble_eq_true rfl)⟩ (m_recv u) rfl (Nat.le_of_ble_eq_true rfl) dX5_next_11 ⟨Nat.le_refl 0, Nat.le_refl 0⟩ ?_
      refine j_istore_n dX5_next_14 [(2, pI x1), (0, pR (some G.1)), (1, pI v1)] (Nat.le_of_ble_eq_true rfl) rfl ?_
      refine j_iload_n dX5_next_15 0 rfl ?_
      refine j_bipush dX5_next_16 (by decide) ?_
      refine j_icmp_eq (w32 x1) 32 rfl rfl 39 dX5_next_18 (by decide) (fun h7 => ?_) (fun h7 => ?_)
      · replace hf := itb h7 hf
        exact j_sub [1, 2] _ rfl (c5_next_b39 (m5_next_l2 n) ih hK0 v1 u hf)
      · replace hf := ieb h7 hf
        refine j_iload_n dX5_next_21 0 rfl ?_
        refine j_bipush dX5_next_22 (by decide) ?_
        refine j_icmp_eq (w32 x1) 9 rfl rfl 39 dX5_next_24 (by decide) (fun h6 => ?_) (fun h6 => ?_)
        · replace hf := itb h6 hf
          exact j_sub [1, 2] _ rfl (c5_next_b39 (m5_next_l2 n) ih hK0 v1 u hf)
        · replace hf := ieb h6 hf
          refine j_iload_n dX5_next_27 0 rfl ?_
          refine j_bipush dX5_next_28 (by decide) ?_
          refine j_icmp_eq (w32 x1) 10 rfl rfl 39 dX5_next_30 (by decide) (fun h5 => ?_) (fun h5 => ?_)
          · replace hf := itb h5 hf
            exact j_sub [1, 2] _ rfl (c5_next_b39 (m5_next_l2 n) ih hK0 v1 u hf)
          · replace hf := ieb h5 hf
            refine j_iload_n dX5_next_33 0 rfl ?_
            refine j_bipush dX5_next_34 (by decide) ?_
            refine j_icmp_ne (w32 x1) 13 rfl rfl 52 dX5_next_36 (by decide) (fun h4 => ?_) (fun h4 => ?_)
            · replace hf := ieb h4 hf
              refine j_iload_n dX5_next_52 0 rfl ?_
              refine j_bipush dX5_next_53 (by decide) ?_
              refine j_icmp_ne (w32 x1) 35 rfl rfl 95 dX5_next_55 (by decide) (fun h3 => ?_) (fun h3 => ?_)
              · replace hf := ieb h3 hf
                refine j_iconst dX5_next_95 ?_
                refine j_istore_n dX5_next_96 [(1, pI 0), (2, pI x1), (0, pR (some G.1))] (Nat.le_of_ble_eq_true rfl) rfl ?_
                refine j_goto 2 dX5_next_97 (by decide) ?_
                exact j_sub [2, 0] _ rfl (ih 0 u hf)
              · replace hf := itb h3 hf
                replace hf := oba hf
                refine j_sub [1, 2] _ rfl (c5_next_l58 v1 ?_ NN u hf)
                · intro q2 hf
                  refine j_goto 2 dX5_next_97 (by decide) ?_
                  exact j_sub [0, 1] _ rfl (ih v1 q2 hf)
            · replace hf := itb h4 hf
              exact j_sub [1, 2] _ rfl (c5_next_b39 (m5_next_l2 n) ih hK0 v1 u hf)
theorem c5_next {G : MG} {l : Launch} {r : Mu}  (u : Mu) (hf : m5_next u = some r) : JM kT (bM G) (aM G) l yX5_next D5_next [pR (some G.1)] u none r 0 0 := by
  refine j_met (lv0 := [(0, pR (some G.1))]) ⟨pl_X5, rfl, rfl, (Nat.le_of_ble_eq_true rfl), rfl⟩ ?_
  unfold m5_next at hf
  refine j_iconst dX5_next_0 ?_
  refine j_istore_n dX5_next_1 [(1, pI 1), (0, pR (some G.1))] (Nat.le_of_ble_eq_true rfl) rfl ?_
  refine j_sub [1, 0] _ rfl (c5_next_l2 ?_ NN 1 u hf)
  · intro q1 hf
    refine j_aload_n dX5_next_100 0 rfl ?_
    refine j_aload_n dX5_next_101 0 rfl ?_
    refine m_geti mf_3 rfl dX5_next_102 ?_
    obtain ⟨u2, hu2, hf⟩ := ob hf
    refine m_puti_ hu2 mf_5 mfw_5 rfl dX5_next_105 ?_
    refine j_aload_n dX5_next_108 0 rfl ?_
    refine j_aload_n dX5_next_109 0 rfl ?_
    refine m_geti mf_3 rfl dX5_next_110 ?_
    obtain ⟨x3, hx3, hf⟩ := ob hf
    refine j_cVr [pI (u2.1 3)] [] kT_v (bM_mv G) (c5_octet (u2.1 3) u2 hx3) wv5_octet dv5_octet rfl ⟨(Nat.le_of_ble_eq_true rfl), (Nat.le_of_ble_eq_true rfl)⟩ (m_recv u2) rfl (Nat.le_of_ble_eq_true rfl) dX5_next_113 ⟨Nat.le_refl 0, Nat.le_refl 0⟩ ?_
    refine j_istore_n dX5_next_116 [(2, pI x3), (0, pR (some G.1))] (Nat.le_of_ble_eq_true rfl) rfl ?_
    refine j_iload_n dX5_next_117 0 rfl ?_
    refine j_if_ge (w32 x3) rfl 129 dX5_next_118 (by decide) (fun h12 => ?_) (fun h12 => ?_)
    · replace hf := it h12 hf
      refine j_iload_n dX5_next_129 0 rfl ?_
      obtain ⟨x4, hx4, hf⟩ := ob hf
      refine j_cSr [pI x3] [] kT_v (bM_mv G) (c5_isLetter x3 u2 hx4) wv5_isLetter dv5_isLetter rfl ⟨(Nat.le_of_ble_eq_true rfl), (Nat.le_of_ble_eq_true rfl)⟩ rfl (Nat.le_of_ble_eq_true rfl) dX5_next_130 ⟨Nat.le_refl 0, Nat.le_refl 0⟩ ?_
      refine j_if_eq (w32 x4) rfl 143 dX5_next_133 (by decide) (fun h10 => ?_) (fun h10 => ?_)
      · replace hf := it h10 hf
        refine j_iload_n dX5_next_143 0 rfl ?_
        obtain ⟨x5, hx5, hf⟩ := ob hf
        refine j_cSr [pI x3] [] kT_v (bM_mv G) (c5_isFigure x3 u2 hx5) wv5_isFigure dv5_isFigure rfl ⟨(Nat.le_of_ble_eq_true rfl), (Nat.le_of_ble_eq_true rfl)⟩ rfl (Nat.le_of_ble_eq_true rfl) dX5_next_144 ⟨Nat.le_refl 0, Nat.le_refl 0⟩ ?_
        refine j_if_eq (w32 x5) rfl 157 dX5_next_147 (by decide) (fun h8 => ?_) (fun h8 => ?_)
        · replace hf := it h8 hf
          refine j_aload_n dX5_next_157 1 rfl ?_
          refine j_iload_n dX5_next_158 0 rfl ?_
          obtain ⟨u6, hu6, hf⟩ := ob hf
          refine j_cVv [pI x3] [] kT_v (bM_mv G) (c5_nextSign x3 u2 hu6) wv5_nextSign dv5_nextSign rfl ⟨(Nat.le_of_ble_eq_true rfl), (Nat.le_of_ble_eq_true rfl)⟩ (m_recv u2) rfl (Nat.le_of_ble_eq_true rfl) dX5_next_159 ⟨Nat.le_refl 0, Nat.le_refl 0⟩ ?_
          replace hf := Option.some.inj hf
          subst hf
          exact j_return (bM_mv G) ⟨Nat.le_refl 0, Nat.le_refl 0⟩ rfl dX5_next_162
        · replace hf := ie h8 hf
          refine j_aload_n dX5_next_150 1 rfl ?_
          obtain ⟨u7, hu7, hf⟩ := ob hf
          refine j_cVv [] [] kT_v (bM_mv G) (c5_nextNumber  u2 hu7) wv5_nextNumber dv5_nextNumber rfl ⟨(Nat.le_of_ble_eq_true rfl), (Nat.le_of_ble_eq_true rfl)⟩ (m_recv u2) rfl (Nat.le_of_ble_eq_true rfl) dX5_next_151 ⟨Nat.le_refl 0, Nat.le_refl 0⟩ ?_
          refine j_goto 162 dX5_next_154 (by decide) ?_
          replace hf := Option.some.inj hf
          subst hf
          exact j_return (bM_mv G) ⟨Nat.le_refl 0, Nat.le_refl 0⟩ rfl dX5_next_162
      · replace hf := ie h10 hf
        refine j_aload_n dX5_next_136 1 rfl ?_
        obtain ⟨u9, hu9, hf⟩ := ob hf
        refine j_cVv [] [] kT_v (bM_mv G) (c5_nextName  u2 hu9) wv5_nextName dv5_nextName rfl ⟨(Nat.le_of_ble_eq_true rfl), (Nat.le_of_ble_eq_true rfl)⟩ (m_recv u2) rfl (Nat.le_of_ble_eq_true rfl) dX5_next_137 ⟨Nat.le_refl 0, Nat.le_refl 0⟩ ?_
        refine j_goto 162 dX5_next_140 (by decide) ?_
        replace hf := Option.some.inj hf
        subst hf
        exact j_return (bM_mv G) ⟨Nat.le_refl 0, Nat.le_refl 0⟩ rfl dX5_next_162
    · replace hf := ie h12 hf
      refine j_aload_n dX5_next_121 1 rfl ?_
      refine j_iconst dX5_next_122 ?_
      obtain ⟨u11, hu11, hf⟩ := ob hf
      refine m_puti_ hu11 mf_4 mfw_4 rfl dX5_next_123 ?_
      refine j_goto 162 dX5_next_126 (by decide) ?_
      replace hf := Option.some.inj hf
      subst hf
      exact j_return (bM_mv G) ⟨Nat.le_refl 0, Nat.le_refl 0⟩ rfl dX5_next_162
theorem c5_beginText {G : MG} {l : Launch} {r : Mu} (v1 : Int) (v2 : Int) (u : Mu) (hf : m5_beginText v1 v2 u = some r) : JM kT (bM G) (aM G) l yX5_beginText D5_beginText [pR (some G.1), pI v1, pI v2] u none r 0 0 := by
  refine j_met (lv0 := [(0, pR (some G.1)), (1, pI v1), (2, pI v2)]) ⟨pl_X5, rfl, rfl, (Nat.le_of_ble_eq_true rfl), rfl⟩ ?_
  unfold m5_beginText at hf
  refine j_aload_n dX5_beginText_0 0 rfl ?_
  refine j_iconst dX5_beginText_1 ?_
  obtain ⟨u1, hu1, hf⟩ := ob hf
  refine m_puti_ hu1 mf_3 mfw_3 rfl dX5_beginText_2 ?_
  refine j_aload_n dX5_beginText_5 0 rfl ?_
  refine j_iconst dX5_beginText_6 ?_
  obtain ⟨u2, hu2, hf⟩ := ob hf
  refine m_puti_ hu2 mf_8 mfw_8 rfl dX5_beginText_7 ?_
  refine j_aload_n dX5_beginText_10 0 rfl ?_
  refine j_iconst dX5_beginText_11 ?_
  obtain ⟨u3, hu3, hf⟩ := ob hf
  refine m_puti_ hu3 mf_46 mfw_46 rfl dX5_beginText_12 ?_
  refine j_aload_n dX5_beginText_15 0 rfl ?_
  refine j_iconst dX5_beginText_16 ?_
  obtain ⟨u4, hu4, hf⟩ := ob hf
  refine m_puti_ hu4 mf_52 mfw_52 rfl dX5_beginText_17 ?_
  refine j_aload_n dX5_beginText_20 0 rfl ?_
  refine j_iload_n dX5_beginText_21 2 rfl ?_
  obtain ⟨u5, hu5, hf⟩ := ob hf
  refine m_puti_ hu5 mf_47 mfw_47 rfl dX5_beginText_22 ?_
  refine j_aload_n dX5_beginText_25 0 rfl ?_
  refine j_iconst dX5_beginText_26 ?_
  obtain ⟨u6, hu6, hf⟩ := ob hf
  refine m_puti_ hu6 mf_56 mfw_56 rfl dX5_beginText_27 ?_
  refine j_aload_n dX5_beginText_30 0 rfl ?_
  refine j_iload_n dX5_beginText_31 1 rfl ?_
  obtain ⟨u7, hu7, hf⟩ := ob hf
  refine m_puti_ hu7 mf_51 mfw_51 rfl dX5_beginText_32 ?_
  refine j_aload_n dX5_beginText_35 0 rfl ?_
  obtain ⟨u8, hu8, hf⟩ := ob hf
  refine j_cVv [] [] kT_v (bM_mv G) (c5_next  u7 hu8) wv5_next dv5_next rfl ⟨(Nat.le_of_ble_eq_true rfl), (Nat.le_of_ble_eq_true rfl)⟩ (m_recv u7) rfl (Nat.le_of_ble_eq_true rfl) dX5_beginText_36 ⟨Nat.le_refl 0, Nat.le_refl 0⟩ ?_
  replace hf := Option.some.inj hf
  subst hf
  exact j_return (bM_mv G) ⟨Nat.le_refl 0, Nat.le_refl 0⟩ rfl dX5_beginText_39
theorem c5_clear_l37 {G : MG} {l : Launch} {a : List PV} {r : Mu} {Kf : Mu → Option (Mu)} (v1 : Int) (hK0 : ∀ q : Mu, Kf q = some r → J5 G l D5_clear a none r q 60 [] []) : ∀ (n : Nat) (v2 : Int) (u : Mu), ((m5_clear_l37 v1 n v2 u).bind Kf = some r) → J5 G l D5_clear a none r u 37 [(0, pR (some G.1)), (1, pI v1), (2, pI v2)] [] := by
  intro n
  induction n with
  | zero => intro v2 u hf; exact onb hf
  | succ n ih =>
    intro v2 u hf
    unfold m5_clear_l37 at hf
    refine j_iload_n dX5_clear_37 2 rfl ?_
    refine j_iconst dX5_clear_38 ?_
    refine j_icmp_ge (w32 v2) 5 rfl rfl 60 dX5_clear_39 (by decide) (fun h2 => ?_) (fun h2 => ?_)
    · replace hf := itb h2 hf
      exact j_sub [] _ rfl (hK0 u hf)
    · replace hf := ieb h2 hf
      refine j_aload_n dX5_clear_42 0 rfl ?_
      refine m_geta mf_32 rfl dX5_clear_43 ?_
      refine j_iconst dX5_clear_46 ?_
      refine j_iload_n dX5_clear_47 1 rfl ?_
      refine j_imul dX5_clear_48 ?_
      refine j_iload_n dX5_clear_49 2 rfl ?_
      refine j_iadd dX5_clear_50 ?_
      refine j_bipush dX5_clear_51 (by decide) ?_
      obtain ⟨u1, hu1, hf⟩ := obb hf
      refine m_iast mr_32 hu1 dX5_clear_53 ?_
      refine j_iinc dX5_clear_54 2 rfl [(2, pI (v2 + 1)), (0, pR (some G.1)), (1, pI v1)] (Nat.le_of_ble_eq_true rfl) rfl ?_
      refine j_goto 37 dX5_clear_57 (by decide) ?_
      exact j_sub [1, 2, 0] _ rfl (ih (v2 + 1) u1 hf)
theorem c5_clear {G : MG} {l : Launch} {r : Mu} (v1 : Int) (u : Mu) (hf : m5_clear v1 u = some r) : JM kT (bM G) (aM G) l yX5_clear D5_clear [pR (some G.1), pI v1] u none r 0 0 := by
  refine j_met (lv0 := [(0, pR (some G.1)), (1, pI v1)]) ⟨pl_X5, rfl, rfl, (Nat.le_of_ble_eq_true rfl), rfl⟩ ?_
  unfold m5_clear at hf
  refine j_aload_n dX5_clear_0 0 rfl ?_
  refine m_geta mf_12 rfl dX5_clear_1 ?_
  refine j_iload_n dX5_clear_4 1 rfl ?_
  refine j_iconst dX5_clear_5 ?_
  obtain ⟨u1, hu1, hf⟩ := ob hf
  refine m_iast mr_12 hu1 dX5_clear_6 ?_
  refine j_aload_n dX5_clear_7 0 rfl ?_
  refine m_geta mf_19 rfl dX5_clear_8 ?_
  refine j_iload_n dX5_clear_11 1 rfl ?_
  refine j_iconst dX5_clear_12 ?_
  obtain ⟨u2, hu2, hf⟩ := ob hf
  refine m_iast mr_19 hu2 dX5_clear_13 ?_
  refine j_aload_n dX5_clear_14 0 rfl ?_
  refine m_geta mf_23 rfl dX5_clear_15 ?_
  refine j_iload_n dX5_clear_18 1 rfl ?_
  refine j_iconst dX5_clear_19 ?_
  obtain ⟨u3, hu3, hf⟩ := ob hf
  refine m_iast mr_23 hu3 dX5_clear_20 ?_
  refine j_aload_n dX5_clear_21 0 rfl ?_
  refine m_geta mf_27 rfl dX5_clear_22 ?_
  refine j_iload_n dX5_clear_25 1 rfl ?_
  refine j_iconst dX5_clear_26 ?_
  obtain ⟨u4, hu4, hf⟩ := ob hf
  refine m_iast mr_27 hu4 dX5_clear_27 ?_
  refine j_aload_n dX5_clear_28 0 rfl ?_
  refine m_geta mf_33 rfl dX5_clear_29 ?_
  refine j_iload_n dX5_clear_32 1 rfl ?_
  refine j_iconst dX5_clear_33 ?_
  obtain ⟨u5, hu5, hf⟩ := ob hf
  refine m_iast mr_33 hu5 dX5_clear_34 ?_
  refine j_iconst dX5_clear_35 ?_
  refine j_istore_n dX5_clear_36 [(2, pI 0), (0, pR (some G.1)), (1, pI v1)] (Nat.le_of_ble_eq_true rfl) rfl ?_
  refine j_sub [1, 2, 0] _ rfl (c5_clear_l37 v1 ?_ NN 0 u5 hf)
  · intro q6 hf
    replace hf := Option.some.inj hf
    subst hf
    exact j_return (bM_mv G) ⟨Nat.le_refl 0, Nat.le_refl 0⟩ rfl dX5_clear_60
theorem c5_copyWording_l133 {G : MG} {l : Launch} {a : List PV} {r : Mu} {Kf : Mu → Option (Mu)} (v1 : Int) (v2 : Int) (v3 : Int) (hK0 : ∀ q : Mu, Kf q = some r → J5 G l D5_copyWording a none r q 180 [(0, pR (some G.1)), (1, pI v1), (2, pI v2), (3, pI v3)] []) : ∀ (n : Nat) (v4 : Int) (u : Mu), ((m5_copyWording_l133 v1 v2 v3 n v4 u).bind Kf = some r) → J5 G l D5_copyWording a none r u 133 [(0, pR (some G.1)), (1, pI v1), (2, pI v2), (3, pI v3), (4, pI v4)] [] := by
  intro n
  induction n with
  | zero => intro v4 u hf; exact onb hf
  | succ n ih =>
    intro v4 u hf
    unfold m5_copyWording_l133 at hf
    refine j_iload dX5_copyWording_133 4 rfl ?_
    refine j_bipush dX5_copyWording_135 (by decide) ?_
    refine j_icmp_ge (w32 v4) 6 rfl rfl 180 dX5_copyWording_137 (by decide) (fun h3 => ?_) (fun h3 => ?_)
    · replace hf := itb h3 hf
      exact j_sub [0, 1, 2, 3] _ rfl (hK0 u hf)
    · replace hf := ieb h3 hf
      refine j_aload_n dX5_copyWording_140 0 rfl ?_
      refine m_geta mf_16 rfl dX5_copyWording_141 ?_
      refine j_bipush dX5_copyWording_144 (by decide) ?_
      refine j_bipush dX5_copyWording_146 (by decide) ?_
      refine j_iload_n dX5_copyWording_148 1 rfl ?_
      refine j_imul dX5_copyWording_149 ?_
      refine j_iload_n dX5_copyWording_150 3 rfl ?_
      refine j_iadd dX5_copyWording_151 ?_
      refine j_imul dX5_copyWording_152 ?_
      refine j_iload dX5_copyWording_153 4 rfl ?_
      refine j_iadd dX5_copyWording_155 ?_
      refine j_aload_n dX5_copyWording_156 0 rfl ?_
      refine m_geta mf_16 rfl dX5_copyWording_157 ?_
      refine j_bipush dX5_copyWording_160 (by decide) ?_
      refine j_bipush dX5_copyWording_162 (by decide) ?_
      refine j_iload_n dX5_copyWording_164 2 rfl ?_
      refine j_imul dX5_copyWording_165 ?_
      refine j_iload_n dX5_copyWording_166 3 rfl ?_
      refine j_iadd dX5_copyWording_167 ?_
      refine j_imul dX5_copyWording_168 ?_
      refine j_iload dX5_copyWording_169 4 rfl ?_
      refine j_iadd dX5_copyWording_171 ?_
      obtain ⟨x1, hx1, hf⟩ := obb hf
      refine m_lald mr_16 hx1 dX5_copyWording_172 ?_
      obtain ⟨u2, hu2, hf⟩ := obb hf
      refine m_last mr_16 hu2 dX5_copyWording_173 ?_
      refine j_iinc dX5_copyWording_174 4 rfl [(4, pI (v4 + 1)), (0, pR (some G.1)), (1, pI v1), (2, pI v2), (3, pI v3)] (Nat.le_of_ble_eq_true rfl) rfl ?_
      refine j_goto 133 dX5_copyWording_177 (by decide) ?_
      exact j_sub [1, 2, 3, 4, 0] _ rfl (ih (v4 + 1) u2 hf)
theorem c5_copyWording_l14 {G : MG} {l : Launch} {a : List PV} {r : Mu} {Kf : Mu → Option (Mu)} (v1 : Int) (v2 : Int) (hK0 : ∀ q : Mu, Kf q = some r → J5 G l D5_copyWording a none r q 186 [(0, pR (some G.1)), (1, pI v1), (2, pI v2)] []) : ∀ (n : Nat) (v3 : Int) (u : Mu), ((m5_copyWording_l14 v1 v2 n v3 u).bind Kf = some r) → J5 G l D5_copyWording a none r u 14 [(0, pR (some G.1)), (1, pI v1), (2, pI v2), (3, pI v3)] [] := by
  intro n
  induction n with
  | zero => intro v3 u hf; exact onb hf
  | succ n ih =>
    intro v3 u hf
    unfold m5_copyWording_l14 at hf
    refine j_iload_n dX5_copyWording_14 3 rfl ?_
    refine j_bipush dX5_copyWording_15 (by decide) ?_
    refine j_icmp_ge (w32 v3) 8 rfl rfl 186 dX5_copyWording_17 (by decide) (fun h12 => ?_) (fun h12 => ?_)
    · replace hf := itb h12 hf
      exact j_sub [0, 1, 2] _ rfl (hK0 u hf)
    · replace hf := ieb h12 hf
      refine j_aload_n dX5_copyWording_20 0 rfl ?_
      refine m_geta mf_13 rfl dX5_copyWording_21 ?_
      refine j_bipush dX5_copyWording_24 (by decide) ?_
      refine j_iload_n dX5_copyWording_26 1 rfl ?_
      refine j_imul dX5_copyWording_27 ?_
      refine j_iload_n dX5_copyWording_28 3 rfl ?_
      refine j_iadd dX5_copyWording_29 ?_
      refine j_aload_n dX5_copyWording_30 0 rfl ?_
      refine m_geta mf_13 rfl dX5_copyWording_31 ?_
      refine j_bipush dX5_copyWording_34 (by decide) ?_
      refine j_iload_n dX5_copyWording_36 2 rfl ?_
      refine j_imul dX5_copyWording_37 ?_
      refine j_iload_n dX5_copyWording_38 3 rfl ?_
      refine j_iadd dX5_copyWording_39 ?_
      obtain ⟨x1, hx1, hf⟩ := obb hf
      refine m_lald mr_13 hx1 dX5_copyWording_40 ?_
      obtain ⟨u2, hu2, hf⟩ := obb hf
      refine m_last mr_13 hu2 dX5_copyWording_41 ?_
      refine j_aload_n dX5_copyWording_42 0 rfl ?_
      refine m_geta mf_14 rfl dX5_copyWording_43 ?_
      refine j_bipush dX5_copyWording_46 (by decide) ?_
      refine j_iload_n dX5_copyWording_48 1 rfl ?_
      refine j_imul dX5_copyWording_49 ?_
      refine j_iload_n dX5_copyWording_50 3 rfl ?_
      refine j_iadd dX5_copyWording_51 ?_
      refine j_aload_n dX5_copyWording_52 0 rfl ?_
      refine m_geta mf_14 rfl dX5_copyWording_53 ?_
      refine j_bipush dX5_copyWording_56 (by decide) ?_
      refine j_iload_n dX5_copyWording_58 2 rfl ?_
      refine j_imul dX5_copyWording_59 ?_
      refine j_iload_n dX5_copyWording_60 3 rfl ?_
      refine j_iadd dX5_copyWording_61 ?_
      obtain ⟨x3, hx3, hf⟩ := obb hf
      refine m_iald mr_14 hx3 dX5_copyWording_62 ?_
      obtain ⟨u4, hu4, hf⟩ := obb hf
      refine m_iast mr_14 hu4 dX5_copyWording_63 ?_
      refine j_aload_n dX5_copyWording_64 0 rfl ?_
      refine m_geta mf_15 rfl dX5_copyWording_65 ?_
      refine j_bipush dX5_copyWording_68 (by decide) ?_
      refine j_iload_n dX5_copyWording_70 1 rfl ?_
      refine j_imul dX5_copyWording_71 ?_
      refine j_iload_n dX5_copyWording_72 3 rfl ?_
      refine j_iadd dX5_copyWording_73 ?_
      refine j_aload_n dX5_copyWording_74 0 rfl ?_
      refine m_geta mf_15 rfl dX5_copyWording_75 ?_
      refine j_bipush dX5_copyWording_78 (by decide) ?_
      refine j_iload_n dX5_copyWording_80 2 rfl ?_
      refine j_imul dX5_copyWording_81 ?_
      refine j_iload_n dX5_copyWording_82 3 rfl ?_
      refine j_iadd dX5_copyWording_83 ?_
      obtain ⟨x5, hx5, hf⟩ := obb hf
      refine m_iald mr_15 hx5 dX5_copyWording_84 ?_
      obtain ⟨u6, hu6, hf⟩ := obb hf
      refine m_iast mr_15 hu6 dX5_copyWording_85 ?_
      refine j_aload_n dX5_copyWording_86 0 rfl ?_
      refine m_geta mf_17 rfl dX5_copyWording_87 ?_
      refine j_bipush dX5_copyWording_90 (by decide) ?_
      refine j_iload_n dX5_copyWording_92 1 rfl ?_
      refine j_imul dX5_copyWording_93 ?_
      refine j_iload_n dX5_copyWording_94 3 rfl ?_
      refine j_iadd dX5_copyWording_95 ?_
      refine j_aload_n dX5_copyWording_96 0 rfl ?_
      refine m_geta mf_17 rfl dX5_copyWording_97 ?_
      refine j_bipush dX5_copyWording_100 (by decide) ?_
      refine j_iload_n dX5_copyWording_102 2 rfl ?_
      refine j_imul dX5_copyWording_103 ?_
      refine j_iload_n dX5_copyWording_104 3 rfl ?_
      refine j_iadd dX5_copyWording_105 ?_
      obtain ⟨x7, hx7, hf⟩ := obb hf
      refine m_iald mr_17 hx7 dX5_copyWording_106 ?_
      obtain ⟨u8, hu8, hf⟩ := obb hf
      refine m_iast mr_17 hu8 dX5_copyWording_107 ?_
      refine j_aload_n dX5_copyWording_108 0 rfl ?_
      refine m_geta mf_18 rfl dX5_copyWording_109 ?_
      refine j_bipush dX5_copyWording_112 (by decide) ?_
      refine j_iload_n dX5_copyWording_114 1 rfl ?_
      refine j_imul dX5_copyWording_115 ?_
      refine j_iload_n dX5_copyWording_116 3 rfl ?_
      refine j_iadd dX5_copyWording_117 ?_
      refine j_aload_n dX5_copyWording_118 0 rfl ?_
      refine m_geta mf_18 rfl dX5_copyWording_119 ?_
      refine j_bipush dX5_copyWording_122 (by decide) ?_
      refine j_iload_n dX5_copyWording_124 2 rfl ?_
      refine j_imul dX5_copyWording_125 ?_
      refine j_iload_n dX5_copyWording_126 3 rfl ?_
      refine j_iadd dX5_copyWording_127 ?_
      obtain ⟨x9, hx9, hf⟩ := obb hf
      refine m_iald mr_18 hx9 dX5_copyWording_128 ?_
      obtain ⟨u10, hu10, hf⟩ := obb hf
      refine m_iast mr_18 hu10 dX5_copyWording_129 ?_
      refine j_iconst dX5_copyWording_130 ?_
      refine j_istore dX5_copyWording_131 [(4, pI 0), (0, pR (some G.1)), (1, pI v1), (2, pI v2), (3, pI v3)] (Nat.le_of_ble_eq_true rfl) rfl ?_
      replace hf := oba hf
      refine j_sub [1, 2, 3, 4, 0] _ rfl (c5_copyWording_l133 v1 v2 v3 ?_ NN 0 u10 hf)
      · intro q11 hf
        refine j_iinc dX5_copyWording_180 3 rfl [(3, pI (v3 + 1)), (0, pR (some G.1)), (1, pI v1), (2, pI v2)] (Nat.le_of_ble_eq_true rfl) rfl ?_
        refine j_goto 14 dX5_copyWording_183 (by decide) ?_
        exact j_sub [1, 2, 3, 0] _ rfl (ih (v3 + 1) q11 hf)
theorem c5_copyWording_l200 {G : MG} {l : Launch} {a : List PV} {r : Mu} {Kf : Mu → Option (Mu)} (v1 : Int) (v2 : Int) (hK0 : ∀ q : Mu, Kf q = some r → J5 G l D5_copyWording a none r q 234 [(0, pR (some G.1)), (1, pI v1), (2, pI v2)] []) : ∀ (n : Nat) (v3 : Int) (u : Mu), ((m5_copyWording_l200 v1 v2 n v3 u).bind Kf = some r) → J5 G l D5_copyWording a none r u 200 [(0, pR (some G.1)), (1, pI v1), (2, pI v2), (3, pI v3)] [] := by
  intro n
  induction n with
  | zero => intro v3 u hf; exact onb hf
  | succ n ih =>
    intro v3 u hf
    unfold m5_copyWording_l200 at hf
    refine j_iload_n dX5_copyWording_200 3 rfl ?_
    refine j_bipush dX5_copyWording_201 (by decide) ?_
    refine j_icmp_ge (w32 v3) 12 rfl rfl 234 dX5_copyWording_203 (by decide) (fun h3 => ?_) (fun h3 => ?_)
    · replace hf := itb h3 hf
      exact j_sub [0, 1, 2] _ rfl (hK0 u hf)
    · replace hf := ieb h3 hf
      refine j_aload_n dX5_copyWording_206 0 rfl ?_
      refine m_geta mf_20 rfl dX5_copyWording_207 ?_
      refine j_bipush dX5_copyWording_210 (by decide) ?_
      refine j_iload_n dX5_copyWording_212 1 rfl ?_
      refine j_imul dX5_copyWording_213 ?_
      refine j_iload_n dX5_copyWording_214 3 rfl ?_
      refine j_iadd dX5_copyWording_215 ?_
      refine j_aload_n dX5_copyWording_216 0 rfl ?_
      refine m_geta mf_20 rfl dX5_copyWording_217 ?_
      refine j_bipush dX5_copyWording_220 (by decide) ?_
      refine j_iload_n dX5_copyWording_222 2 rfl ?_
      refine j_imul dX5_copyWording_223 ?_
      refine j_iload_n dX5_copyWording_224 3 rfl ?_
      refine j_iadd dX5_copyWording_225 ?_
      obtain ⟨x1, hx1, hf⟩ := obb hf
      refine m_lald mr_20 hx1 dX5_copyWording_226 ?_
      obtain ⟨u2, hu2, hf⟩ := obb hf
      refine m_last mr_20 hu2 dX5_copyWording_227 ?_
      refine j_iinc dX5_copyWording_228 3 rfl [(3, pI (v3 + 1)), (0, pR (some G.1)), (1, pI v1), (2, pI v2)] (Nat.le_of_ble_eq_true rfl) rfl ?_
      refine j_goto 200 dX5_copyWording_231 (by decide) ?_
      exact j_sub [1, 2, 3, 0] _ rfl (ih (v3 + 1) u2 hf)
theorem c5_copyWording_l248 {G : MG} {l : Launch} {a : List PV} {r : Mu} {Kf : Mu → Option (Mu)} (v1 : Int) (v2 : Int) (hK0 : ∀ q : Mu, Kf q = some r → J5 G l D5_copyWording a none r q 304 [(0, pR (some G.1)), (1, pI v1), (2, pI v2)] []) : ∀ (n : Nat) (v3 : Int) (u : Mu), ((m5_copyWording_l248 v1 v2 n v3 u).bind Kf = some r) → J5 G l D5_copyWording a none r u 248 [(0, pR (some G.1)), (1, pI v1), (2, pI v2), (3, pI v3)] [] := by
  intro n
  induction n with
  | zero => intro v3 u hf; exact onb hf
  | succ n ih =>
    intro v3 u hf
    unfold m5_copyWording_l248 at hf
    refine j_iload_n dX5_copyWording_248 3 rfl ?_
    refine j_bipush dX5_copyWording_249 (by decide) ?_
    refine j_icmp_ge (w32 v3) 24 rfl rfl 304 dX5_copyWording_251 (by decide) (fun h5 => ?_) (fun h5 => ?_)
    · replace hf := itb h5 hf
      exact j_sub [0, 1, 2] _ rfl (hK0 u hf)
    · replace hf := ieb h5 hf
      refine j_aload_n dX5_copyWording_254 0 rfl ?_
      refine m_geta mf_28 rfl dX5_copyWording_255 ?_
      refine j_bipush dX5_copyWording_258 (by decide) ?_
      refine j_iload_n dX5_copyWording_260 1 rfl ?_
      refine j_imul dX5_copyWording_261 ?_
      refine j_iload_n dX5_copyWording_262 3 rfl ?_
      refine j_iadd dX5_copyWording_263 ?_
      refine j_aload_n dX5_copyWording_264 0 rfl ?_
      refine m_geta mf_28 rfl dX5_copyWording_265 ?_
      refine j_bipush dX5_copyWording_268 (by decide) ?_
      refine j_iload_n dX5_copyWording_270 2 rfl ?_
      refine j_imul dX5_copyWording_271 ?_
      refine j_iload_n dX5_copyWording_272 3 rfl ?_
      refine j_iadd dX5_copyWording_273 ?_
      obtain ⟨x1, hx1, hf⟩ := obb hf
      refine m_iald mr_28 hx1 dX5_copyWording_274 ?_
      obtain ⟨u2, hu2, hf⟩ := obb hf
      refine m_iast mr_28 hu2 dX5_copyWording_275 ?_
      refine j_aload_n dX5_copyWording_276 0 rfl ?_
      refine m_geta mf_29 rfl dX5_copyWording_277 ?_
      refine j_bipush dX5_copyWording_280 (by decide) ?_
      refine j_iload_n dX5_copyWording_282 1 rfl ?_
      refine j_imul dX5_copyWording_283 ?_
      refine j_iload_n dX5_copyWording_284 3 rfl ?_
      refine j_iadd dX5_copyWording_285 ?_
      refine j_aload_n dX5_copyWording_286 0 rfl ?_
      refine m_geta mf_29 rfl dX5_copyWording_287 ?_
      refine j_bipush dX5_copyWording_290 (by decide) ?_
      refine j_iload_n dX5_copyWording_292 2 rfl ?_
      refine j_imul dX5_copyWording_293 ?_
      refine j_iload_n dX5_copyWording_294 3 rfl ?_
      refine j_iadd dX5_copyWording_295 ?_
      obtain ⟨x3, hx3, hf⟩ := obb hf
      refine m_iald mr_29 hx3 dX5_copyWording_296 ?_
      obtain ⟨u4, hu4, hf⟩ := obb hf
      refine m_iast mr_29 hu4 dX5_copyWording_297 ?_
      refine j_iinc dX5_copyWording_298 3 rfl [(3, pI (v3 + 1)), (0, pR (some G.1)), (1, pI v1), (2, pI v2)] (Nat.le_of_ble_eq_true rfl) rfl ?_
      refine j_goto 248 dX5_copyWording_301 (by decide) ?_
      exact j_sub [1, 2, 3, 0] _ rfl (ih (v3 + 1) u4 hf)
theorem c5_copyWording_l306 {G : MG} {l : Launch} {a : List PV} {r : Mu} {Kf : Mu → Option (Mu)} (v1 : Int) (v2 : Int) (hK0 : ∀ q : Mu, Kf q = some r → J5 G l D5_copyWording a none r q 337 [] []) : ∀ (n : Nat) (v3 : Int) (u : Mu), ((m5_copyWording_l306 v1 v2 n v3 u).bind Kf = some r) → J5 G l D5_copyWording a none r u 306 [(0, pR (some G.1)), (1, pI v1), (2, pI v2), (3, pI v3)] [] := by
  intro n
  induction n with
  | zero => intro v3 u hf; exact onb hf
  | succ n ih =>
    intro v3 u hf
    unfold m5_copyWording_l306 at hf
    refine j_iload_n dX5_copyWording_306 3 rfl ?_
    refine j_iconst dX5_copyWording_307 ?_
    refine j_icmp_ge (w32 v3) 5 rfl rfl 337 dX5_copyWording_308 (by decide) (fun h3 => ?_) (fun h3 => ?_)
    · replace hf := itb h3 hf
      exact j_sub [] _ rfl (hK0 u hf)
    · replace hf := ieb h3 hf
      refine j_aload_n dX5_copyWording_311 0 rfl ?_
      refine m_geta mf_32 rfl dX5_copyWording_312 ?_
      refine j_iconst dX5_copyWording_315 ?_
      refine j_iload_n dX5_copyWording_316 1 rfl ?_
      refine j_imul dX5_copyWording_317 ?_
      refine j_iload_n dX5_copyWording_318 3 rfl ?_
      refine j_iadd dX5_copyWording_319 ?_
      refine j_aload_n dX5_copyWording_320 0 rfl ?_
      refine m_geta mf_32 rfl dX5_copyWording_321 ?_
      refine j_iconst dX5_copyWording_324 ?_
      refine j_iload_n dX5_copyWording_325 2 rfl ?_
      refine j_imul dX5_copyWording_326 ?_
      refine j_iload_n dX5_copyWording_327 3 rfl ?_
      refine j_iadd dX5_copyWording_328 ?_
      obtain ⟨x1, hx1, hf⟩ := obb hf
      refine m_iald mr_32 hx1 dX5_copyWording_329 ?_
      obtain ⟨u2, hu2, hf⟩ := obb hf
      refine m_iast mr_32 hu2 dX5_copyWording_330 ?_
      refine j_iinc dX5_copyWording_331 3 rfl [(3, pI (v3 + 1)), (0, pR (some G.1)), (1, pI v1), (2, pI v2)] (Nat.le_of_ble_eq_true rfl) rfl ?_
      refine j_goto 306 dX5_copyWording_334 (by decide) ?_
      exact j_sub [1, 2, 3, 0] _ rfl (ih (v3 + 1) u2 hf)
theorem c5_copyWording {G : MG} {l : Launch} {r : Mu} (v1 : Int) (v2 : Int) (u : Mu) (hf : m5_copyWording v1 v2 u = some r) : JM kT (bM G) (aM G) l yX5_copyWording D5_copyWording [pR (some G.1), pI v1, pI v2] u none r 0 0 := by
  refine j_met (lv0 := [(0, pR (some G.1)), (1, pI v1), (2, pI v2)]) ⟨pl_X5, rfl, rfl, (Nat.le_of_ble_eq_true rfl), rfl⟩ ?_
  unfold m5_copyWording at hf
  refine j_aload_n dX5_copyWording_0 0 rfl ?_
  refine m_geta mf_12 rfl dX5_copyWording_1 ?_
  refine j_iload_n dX5_copyWording_4 1 rfl ?_
  refine j_aload_n dX5_copyWording_5 0 rfl ?_
  refine m_geta mf_12 rfl dX5_copyWording_6 ?_
  refine j_iload_n dX5_copyWording_9 2 rfl ?_
  obtain ⟨x1, hx1, hf⟩ := ob hf
  refine m_iald mr_12 hx1 dX5_copyWording_10 ?_
  obtain ⟨u2, hu2, hf⟩ := ob hf
  refine m_iast mr_12 hu2 dX5_copyWording_11 ?_
  refine j_iconst dX5_copyWording_12 ?_
  refine j_istore_n dX5_copyWording_13 [(3, pI 0), (0, pR (some G.1)), (1, pI v1), (2, pI v2)] (Nat.le_of_ble_eq_true rfl) rfl ?_
  refine j_sub [1, 2, 3, 0] _ rfl (c5_copyWording_l14 v1 v2 ?_ NN 0 u2 hf)
  · intro q3 hf
    refine j_aload_n dX5_copyWording_186 0 rfl ?_
    refine m_geta mf_19 rfl dX5_copyWording_187 ?_
    refine j_iload_n dX5_copyWording_190 1 rfl ?_
    refine j_aload_n dX5_copyWording_191 0 rfl ?_
    refine m_geta mf_19 rfl dX5_copyWording_192 ?_
    refine j_iload_n dX5_copyWording_195 2 rfl ?_
    obtain ⟨x4, hx4, hf⟩ := ob hf
    refine m_iald mr_19 hx4 dX5_copyWording_196 ?_
    obtain ⟨u5, hu5, hf⟩ := ob hf
    refine m_iast mr_19 hu5 dX5_copyWording_197 ?_
    refine j_iconst dX5_copyWording_198 ?_
    refine j_istore_n dX5_copyWording_199 [(3, pI 0), (0, pR (some G.1)), (1, pI v1), (2, pI v2)] (Nat.le_of_ble_eq_true rfl) rfl ?_
    refine j_sub [1, 2, 3, 0] _ rfl (c5_copyWording_l200 v1 v2 ?_ NN 0 u5 hf)
    · intro q6 hf
      refine j_aload_n dX5_copyWording_234 0 rfl ?_
      refine m_geta mf_27 rfl dX5_copyWording_235 ?_
      refine j_iload_n dX5_copyWording_238 1 rfl ?_
      refine j_aload_n dX5_copyWording_239 0 rfl ?_
      refine m_geta mf_27 rfl dX5_copyWording_240 ?_
      refine j_iload_n dX5_copyWording_243 2 rfl ?_
      obtain ⟨x7, hx7, hf⟩ := ob hf
      refine m_iald mr_27 hx7 dX5_copyWording_244 ?_
      obtain ⟨u8, hu8, hf⟩ := ob hf
      refine m_iast mr_27 hu8 dX5_copyWording_245 ?_
      refine j_iconst dX5_copyWording_246 ?_
      refine j_istore_n dX5_copyWording_247 [(3, pI 0), (0, pR (some G.1)), (1, pI v1), (2, pI v2)] (Nat.le_of_ble_eq_true rfl) rfl ?_
      refine j_sub [1, 2, 3, 0] _ rfl (c5_copyWording_l248 v1 v2 ?_ NN 0 u8 hf)
      · intro q9 hf
        refine j_iconst dX5_copyWording_304 ?_
        refine j_istore_n dX5_copyWording_305 [(3, pI 0), (0, pR (some G.1)), (1, pI v1), (2, pI v2)] (Nat.le_of_ble_eq_true rfl) rfl ?_
        refine j_sub [1, 2, 3, 0] _ rfl (c5_copyWording_l306 v1 v2 ?_ NN 0 q9 hf)
        · intro q10 hf
          replace hf := Option.some.inj hf
          subst hf
          exact j_return (bM_mv G) ⟨Nat.le_refl 0, Nat.le_refl 0⟩ rfl dX5_copyWording_337
theorem c5_ended_b21 {G : MG} {l : Launch} {a : List PV} {r : Int × Mu} (s1 : Int) (u : Mu) (hf : m5_ended_b21 s1 u = some r) : J5 G l D5_ended a (some (pI r.1)) r.2 u 21 [(0, pR (some G.1))] [pI s1, pR (some G.1)] := by
  unfold m5_ended_b21 at hf
  obtain ⟨u1, hu1, hf⟩ := ob hf
  refine m_puti_ hu1 mf_10 mfw_10 rfl dX5_ended_21 ?_
  refine j_aload_n dX5_ended_24 0 rfl ?_
  refine m_geti mf_8 rfl dX5_ended_25 ?_
  refine j_if_le (w32 (u1.1 8)) rfl 41 dX5_ended_28 (by decide) (fun h2 => ?_) (fun h2 => ?_)
  · replace hf := it h2 hf
    refine j_iconst dX5_ended_41 ?_
    replace hf := Option.some.inj hf
    subst hf
    exact j_ireturn (bM_mv G) ⟨Nat.le_refl 0, Nat.le_refl 0⟩ rfl dX5_ended_42
  · replace hf := ie h2 hf
    refine j_bipush dX5_ended_31 (by decide) ?_
    refine j_aload_n dX5_ended_33 0 rfl ?_
    refine m_geti mf_8 rfl dX5_ended_34 ?_
    refine j_isub dX5_ended_37 ?_
    refine j_goto 42 dX5_ended_38 (by decide) ?_
    replace hf := Option.some.inj hf
    subst hf
    exact j_ireturn (bM_mv G) ⟨Nat.le_refl 0, Nat.le_refl 0⟩ rfl dX5_ended_42
theorem c5_ended {G : MG} {l : Launch} {r : Int × Mu}  (u : Mu) (hf : m5_ended u = some r) : JM kT (bM G) (aM G) l yX5_ended D5_ended [pR (some G.1)] u (some (pI r.1)) r.2 0 0 := by
  refine j_met (lv0 := [(0, pR (some G.1))]) ⟨pl_X5, rfl, rfl, (Nat.le_of_ble_eq_true rfl), rfl⟩ ?_
  unfold m5_ended at hf
  refine j_aload_n dX5_ended_0 0 rfl ?_
  refine j_iconst dX5_ended_1 ?_
  obtain ⟨u1, hu1, hf⟩ := ob hf
  refine m_puti_ hu1 mf_2 mfw_2 rfl dX5_ended_2 ?_
  refine j_aload_n dX5_ended_5 0 rfl ?_
  refine j_aload_n dX5_ended_6 0 rfl ?_
  refine m_geti mf_8 rfl dX5_ended_7 ?_
  refine j_if_le (w32 (u1.1 8)) rfl 20 dX5_ended_10 (by decide) (fun h2 => ?_) (fun h2 => ?_)
  · replace hf := it h2 hf
    refine j_iconst dX5_ended_20 ?_
    exact j_sub [0] _ rfl (c5_ended_b21 (-1) u1 hf)
  · replace hf := ie h2 hf
    refine j_aload_n dX5_ended_13 0 rfl ?_
    refine m_geti mf_9 rfl dX5_ended_14 ?_
    refine j_goto 21 dX5_ended_17 (by decide) ?_
    exact j_sub [0] _ rfl (c5_ended_b21 (u1.1 9) u1 hf)
theorem c5_holdsSign {G : MG} {l : Launch} {r : Int} (v0 : Int) (v1 : Int) (v2 : Int) (u : Mu) (hf : m5_holdsSign v0 v1 v2 = some r) : JM kT (bM G) (aM G) l yX5_holdsSign D5_holdsSign [pI v0, pI v1, pI v2] u (some (pI r)) u 0 0 := by
  refine j_met (lv0 := [(0, pI v0), (1, pI v1), (2, pI v2)]) ⟨pl_X5, rfl, rfl, (Nat.le_of_ble_eq_true rfl), rfl⟩ ?_
  unfold m5_holdsSign at hf
  refine j_iload_n dX5_holdsSign_0 0 rfl ?_
  refine j_if_ne (w32 v0) rfl 17 dX5_holdsSign_1 (by decide) (fun h11 => ?_) (fun h11 => ?_)
  · replace hf := ie h11 hf
    refine j_iload_n dX5_holdsSign_17 0 rfl ?_
    refine j_iconst dX5_holdsSign_18 ?_
    refine j_icmp_ne (w32 v0) 1 rfl rfl 35 dX5_holdsSign_19 (by decide) (fun h9 => ?_) (fun h9 => ?_)
    · replace hf := ie h9 hf
      refine j_iload_n dX5_holdsSign_35 0 rfl ?_
      refine j_iconst dX5_holdsSign_36 ?_
      refine j_icmp_ne (w32 v0) 2 rfl rfl 53 dX5_holdsSign_37 (by decide) (fun h7 => ?_) (fun h7 => ?_)
      · replace hf := ie h7 hf
        refine j_iload_n dX5_holdsSign_53 0 rfl ?_
        refine j_iconst dX5_holdsSign_54 ?_
        refine j_icmp_ne (w32 v0) 3 rfl rfl 71 dX5_holdsSign_55 (by decide) (fun h5 => ?_) (fun h5 => ?_)
        · replace hf := ie h5 hf
          refine j_iload_n dX5_holdsSign_71 0 rfl ?_
          refine j_iconst dX5_holdsSign_72 ?_
          refine j_icmp_ne (w32 v0) 4 rfl rfl 89 dX5_holdsSign_73 (by decide) (fun h3 => ?_) (fun h3 => ?_)
          · replace hf := ie h3 hf
            refine j_iload_n dX5_holdsSign_89 1 rfl ?_
            refine j_iload_n dX5_holdsSign_90 2 rfl ?_
            refine j_icmp_eq (w32 v1) (w32 v2) rfl rfl 98 dX5_holdsSign_91 (by decide) (fun h1 => ?_) (fun h1 => ?_)
            · replace hf := it h1 hf
              refine j_iconst dX5_holdsSign_98 ?_
              replace hf := Option.some.inj hf
              subst hf
              exact j_zreturn (x := 0) (bM_mv G) ⟨Nat.le_refl 0, Nat.le_refl 0⟩ (ty := .boolean) rfl (nar_z (Or.inl rfl)) dX5_holdsSign_99
            · replace hf := ie h1 hf
              refine j_iconst dX5_holdsSign_94 ?_
              refine j_goto 99 dX5_holdsSign_95 (by decide) ?_
              replace hf := Option.some.inj hf
              subst hf
              exact j_zreturn (x := 1) (bM_mv G) ⟨Nat.le_refl 0, Nat.le_refl 0⟩ (ty := .boolean) rfl (nar_z (Or.inr rfl)) dX5_holdsSign_99
          · replace hf := it h3 hf
            refine j_iload_n dX5_holdsSign_76 1 rfl ?_
            refine j_iload_n dX5_holdsSign_77 2 rfl ?_
            refine j_icmp_lt (w32 v1) (w32 v2) rfl rfl 85 dX5_holdsSign_78 (by decide) (fun h2 => ?_) (fun h2 => ?_)
            · replace hf := it h2 hf
              refine j_iconst dX5_holdsSign_85 ?_
              refine j_goto 99 dX5_holdsSign_86 (by decide) ?_
              replace hf := Option.some.inj hf
              subst hf
              exact j_zreturn (x := 0) (bM_mv G) ⟨Nat.le_refl 0, Nat.le_refl 0⟩ (ty := .boolean) rfl (nar_z (Or.inl rfl)) dX5_holdsSign_99
            · replace hf := ie h2 hf
              refine j_iconst dX5_holdsSign_81 ?_
              refine j_goto 99 dX5_holdsSign_82 (by decide) ?_
              replace hf := Option.some.inj hf
              subst hf
              exact j_zreturn (x := 1) (bM_mv G) ⟨Nat.le_refl 0, Nat.le_refl 0⟩ (ty := .boolean) rfl (nar_z (Or.inr rfl)) dX5_holdsSign_99
        · replace hf := it h5 hf
          refine j_iload_n dX5_holdsSign_58 1 rfl ?_
          refine j_iload_n dX5_holdsSign_59 2 rfl ?_
          refine j_icmp_gt (w32 v1) (w32 v2) rfl rfl 67 dX5_holdsSign_60 (by decide) (fun h4 => ?_) (fun h4 => ?_)
          · replace hf := it h4 hf
            refine j_iconst dX5_holdsSign_67 ?_
            refine j_goto 99 dX5_holdsSign_68 (by decide) ?_
            replace hf := Option.some.inj hf
            subst hf
            exact j_zreturn (x := 0) (bM_mv G) ⟨Nat.le_refl 0, Nat.le_refl 0⟩ (ty := .boolean) rfl (nar_z (Or.inl rfl)) dX5_holdsSign_99
          · replace hf := ie h4 hf
            refine j_iconst dX5_holdsSign_63 ?_
            refine j_goto 99 dX5_holdsSign_64 (by decide) ?_
            replace hf := Option.some.inj hf
            subst hf
            exact j_zreturn (x := 1) (bM_mv G) ⟨Nat.le_refl 0, Nat.le_refl 0⟩ (ty := .boolean) rfl (nar_z (Or.inr rfl)) dX5_holdsSign_99
      · replace hf := it h7 hf
        refine j_iload_n dX5_holdsSign_40 1 rfl ?_
        refine j_iload_n dX5_holdsSign_41 2 rfl ?_
        refine j_icmp_le (w32 v1) (w32 v2) rfl rfl 49 dX5_holdsSign_42 (by decide) (fun h6 => ?_) (fun h6 => ?_)
        · replace hf := it h6 hf
          refine j_iconst dX5_holdsSign_49 ?_
          refine j_goto 99 dX5_holdsSign_50 (by decide) ?_
          replace hf := Option.some.inj hf
          subst hf
          exact j_zreturn (x := 0) (bM_mv G) ⟨Nat.le_refl 0, Nat.le_refl 0⟩ (ty := .boolean) rfl (nar_z (Or.inl rfl)) dX5_holdsSign_99
        · replace hf := ie h6 hf
          refine j_iconst dX5_holdsSign_45 ?_
          refine j_goto 99 dX5_holdsSign_46 (by decide) ?_
          replace hf := Option.some.inj hf
          subst hf
          exact j_zreturn (x := 1) (bM_mv G) ⟨Nat.le_refl 0, Nat.le_refl 0⟩ (ty := .boolean) rfl (nar_z (Or.inr rfl)) dX5_holdsSign_99
    · replace hf := it h9 hf
      refine j_iload_n dX5_holdsSign_22 1 rfl ?_
      refine j_iload_n dX5_holdsSign_23 2 rfl ?_
      refine j_icmp_ge (w32 v1) (w32 v2) rfl rfl 31 dX5_holdsSign_24 (by decide) (fun h8 => ?_) (fun h8 => ?_)
      · replace hf := it h8 hf
        refine j_iconst dX5_holdsSign_31 ?_
        refine j_goto 99 dX5_holdsSign_32 (by decide) ?_
        replace hf := Option.some.inj hf
        subst hf
        exact j_zreturn (x := 0) (bM_mv G) ⟨Nat.le_refl 0, Nat.le_refl 0⟩ (ty := .boolean) rfl (nar_z (Or.inl rfl)) dX5_holdsSign_99
      · replace hf := ie h8 hf
        refine j_iconst dX5_holdsSign_27 ?_
        refine j_goto 99 dX5_holdsSign_28 (by decide) ?_
        replace hf := Option.some.inj hf
        subst hf
        exact j_zreturn (x := 1) (bM_mv G) ⟨Nat.le_refl 0, Nat.le_refl 0⟩ (ty := .boolean) rfl (nar_z (Or.inr rfl)) dX5_holdsSign_99
  · replace hf := it h11 hf
    refine j_iload_n dX5_holdsSign_4 1 rfl ?_
    refine j_iload_n dX5_holdsSign_5 2 rfl ?_
    refine j_icmp_ne (w32 v1) (w32 v2) rfl rfl 13 dX5_holdsSign_6 (by decide) (fun h10 => ?_) (fun h10 => ?_)
    · replace hf := ie h10 hf
      refine j_iconst dX5_holdsSign_13 ?_
      refine j_goto 99 dX5_holdsSign_14 (by decide) ?_
      replace hf := Option.some.inj hf
      subst hf
      exact j_zreturn (x := 0) (bM_mv G) ⟨Nat.le_refl 0, Nat.le_refl 0⟩ (ty := .boolean) rfl (nar_z (Or.inl rfl)) dX5_holdsSign_99
    · replace hf := it h10 hf
      refine j_iconst dX5_holdsSign_9 ?_
      refine j_goto 99 dX5_holdsSign_10 (by decide) ?_
      replace hf := Option.some.inj hf
      subst hf
      exact j_zreturn (x := 1) (bM_mv G) ⟨Nat.le_refl 0, Nat.le_refl 0⟩ (ty := .boolean) rfl (nar_z (Or.inr rfl)) dX5_holdsSign_99
theorem c5_isTrue_b213 {G : MG} {l : Launch} {a : List PV} {r : Int × Mu} {Kf : Mu → Option (Int × Mu)} {v1 : Int} {v3 : Int} (kh : Int → Int → Mu → Option (Mu)) (hkh : ∀ (z4 : Int) (z5 : Int) (zu : Mu), ((kh z4 z5 zu).bind Kf = some r) → J5 G l D5_isTrue a (some (pI r.1)) r.2 zu 6 [(0, pR (some G.1)), (1, pI v1), (3, pI v3), (4, pI z4), (5, pI z5)] []) (hK0 : ∀ q : Mu, Kf q = some r → J5 G l D5_isTrue a (some (pI r.1)) r.2 q 225 [(0, pR (some G.1))] []) (v4 : Int) (v5 : Int) (s1 : Int) (u : Mu) (hf : (m5_isTrue_b213 kh v1 v3 v4 v5 s1 u).bind Kf = some r) : J5 G l D5_isTrue a (some (pI r.1)) r.2 u 213 [(0, pR (some G.1)), (1, pI v1), (3, pI v3), (4, pI v4), (5, pI v5)] [pI s1, pR (some (G.2.1 60))] := by
  unfold m5_isTrue_b213 at hf
  refine j_iconst dX5_isTrue_213 ?_
  refine j_goto 218 dX5_isTrue_214 (by decide) ?_
  obtain ⟨u1, hu1, hf⟩ := obb hf
  refine m_zast mr_60 hu1 dX5_isTrue_218 ?_
  refine j_iinc dX5_isTrue_219 4 rfl [(5, pI (v5 + 1)), (0, pR (some G.1)), (1, pI v1), (3, pI v3), (4, pI v4)] (Nat.le_of_ble_eq_true rfl) rfl ?_
  refine j_goto 6 dX5_isTrue_222 (by decide) ?_
  exact j_sub [1, 2, 3, 4, 0] _ rfl (hkh v4 (v5 + 1) u1 hf)
theorem c5_isTrue_b187 {G : MG} {l : Launch} {a : List PV} {r : Int × Mu} {Kf : Mu → Option (Int × Mu)} {v1 : Int} {v3 : Int} (kh : Int → Int → Mu → Option (Mu)) (hkh : ∀ (z4 : Int) (z5 : Int) (zu : Mu), ((kh z4 z5 zu).bind Kf = some r) → J5 G l D5_isTrue a (some (pI r.1)) r.2 zu 6 [(0, pR (some G.1)), (1, pI v1), (3, pI v3), (4, pI z4), (5, pI z5)] []) (hK0 : ∀ q : Mu, Kf q = some r → J5 G l D5_isTrue a (some (pI r.1)) r.2 q 225 [(0, pR (some G.1))] []) (v4 : Int) (v5 : Int) (s1 : Int) (u : Mu) (hf : (m5_isTrue_b187 kh v1 v3 v4 v5 s1 u).bind Kf = some r) : J5 G l D5_isTrue a (some (pI r.1)) r.2 u 187 [(0, pR (some G.1)), (1, pI v1), (3, pI v3), (4, pI v4), (5, pI v5)] [pI s1, pR (some (G.2.1 60))] := by
  unfold m5_isTrue_b187 at hf
  refine j_iconst dX5_isTrue_187 ?_
  refine j_goto 218 dX5_isTrue_188 (by decide) ?_
  obtain ⟨u1, hu1, hf⟩ := obb hf
  refine m_zast mr_60 hu1 dX5_isTrue_218 ?_
  refine j_iinc dX5_isTrue_219 4 rfl [(5, pI (v5 + 1)), (0, pR (some G.1)), (1, pI v1), (3, pI v3), (4, pI v4)] (Nat.le_of_ble_eq_true rfl) rfl ?_
  refine j_goto 6 dX5_isTrue_222 (by decide) ?_
  exact j_sub [1, 2, 3, 4, 0] _ rfl (hkh v4 (v5 + 1) u1 hf)
theorem c5_isTrue_b140 {G : MG} {l : Launch} {a : List PV} {r : Int × Mu} {Kf : Mu → Option (Int × Mu)} {v1 : Int} {v3 : Int} (kh : Int → Int → Mu → Option (Mu)) (hkh : ∀ (z4 : Int) (z5 : Int) (zu : Mu), ((kh z4 z5 zu).bind Kf = some r) → J5 G l D5_isTrue a (some (pI r.1)) r.2 zu 6 [(0, pR (some G.1)), (1, pI v1), (3, pI v3), (4, pI z4), (5, pI z5)] []) (hK0 : ∀ q : Mu, Kf q = some r → J5 G l D5_isTrue a (some (pI r.1)) r.2 q 225 [(0, pR (some G.1))] []) (v4 : Int) (v5 : Int) (s1 : Int) (s2 : Int) (u : Mu) (hf : (m5_isTrue_b140 kh v1 v3 v4 v5 s1 s2 u).bind Kf = some r) : J5 G l D5_isTrue a (some (pI r.1)) r.2 u 140 [(0, pR (some G.1)), (1, pI v1), (3, pI v3), (4, pI v4), (5, pI v5)] [pI s2, pI s1, pR (some (G.2.1 60))] := by
  unfold m5_isTrue_b140 at hf
  obtain ⟨u1, hu1, hf⟩ := obb hf
  refine m_zast mr_60 hu1 dX5_isTrue_140 ?_
  refine j_goto 219 dX5_isTrue_141 (by decide) ?_
  refine j_iinc dX5_isTrue_219 4 rfl [(5, pI (v5 + 1)), (0, pR (some G.1)), (1, pI v1), (3, pI v3), (4, pI v4)] (Nat.le_of_ble_eq_true rfl) rfl ?_
  refine j_goto 6 dX5_isTrue_222 (by decide) ?_
  exact j_sub [1, 2, 3, 4, 0] _ rfl (hkh v4 (v5 + 1) u1 hf)
theorem c5_isTrue_l6 {G : MG} {l : Launch} {a : List PV} {r : Int × Mu} {Kf : Mu → Option (Int × Mu)} (v1 : Int) (v3 : Int) (hK0 : ∀ q : Mu, Kf q = some r → J5 G l D5_isTrue a (some (pI r.1)) r.2 q 225 [(0, pR (some G.1))] []) : ∀ (n : Nat) (v4 : Int) (v5 : Int) (u : Mu), ((m5_isTrue_l6 v1 v3 n v4 v5 u).bind Kf = some r) → J5 G l D5_isTrue a (some (pI r.1)) r.2 u 6 [(0, pR (some G.1)), (1, pI v1), (3, pI v3), (4, pI v4), (5, pI v5)] [] := by
  intro n
  induction n with
  | zero => intro v4 v5 u hf; exact onb hf
  | succ n ih =>
    intro v4 v5 u hf
    unfold m5_isTrue_l6 at hf
    refine j_iload dX5_isTrue_6 4 rfl ?_
    refine j_iload_n dX5_isTrue_8 2 rfl ?_
    refine j_icmp_ge (w32 v5) (w32 v3) rfl rfl 225 dX5_isTrue_9 (by decide) (fun h27 => ?_) (fun h27 => ?_)
    · replace hf := itb h27 hf
      exact j_sub [0] _ rfl (hK0 u hf)
    · replace hf := ieb h27 hf
      refine j_sipush dX5_isTrue_12 (by decide) ?_
      refine j_iload_n dX5_isTrue_15 1 rfl ?_
      refine j_imul dX5_isTrue_16 ?_
      refine j_iload dX5_isTrue_17 4 rfl ?_
      refine j_iadd dX5_isTrue_19 ?_
      refine j_istore dX5_isTrue_20 [(6, pI ((2400 * v1) + v5)), (0, pR (some G.1)), (1, pI v1), (3, pI v3), (4, pI v4), (5, pI v5)] (Nat.le_of_ble_eq_true rfl) rfl ?_
      refine j_aload_n dX5_isTrue_22 1 rfl ?_
      refine m_geta mf_34 rfl dX5_isTrue_23 ?_
      refine j_iload dX5_isTrue_26 0 rfl ?_
      obtain ⟨x1, hx1, hf⟩ := obb hf
      refine m_bald mr_34 hx1 dX5_isTrue_28 ?_
      refine j_istore dX5_isTrue_29 [(7, pI x1), (6, pI ((2400 * v1) + v5)), (0, pR (some G.1)), (1, pI v1), (3, pI v3), (4, pI v4), (5, pI v5)] (Nat.le_of_ble_eq_true rfl) rfl ?_
      refine j_iload dX5_isTrue_31 0 rfl ?_
      refine j_if_ne (w32 x1) rfl 78 dX5_isTrue_33 (by decide) (fun h26 => ?_) (fun h26 => ?_)
      · replace hf := ieb h26 hf
        refine j_iload dX5_isTrue_78 0 rfl ?_
        refine j_iconst dX5_isTrue_80 ?_
        refine j_icmp_ne (w32 x1) 1 rfl rfl 109 dX5_isTrue_81 (by decide) (fun h19 => ?_) (fun h19 => ?_)
        · replace hf := ieb h19 hf
          refine j_iload dX5_isTrue_109 0 rfl ?_
          refine j_iconst dX5_isTrue_111 ?_
          refine j_icmp_ne (w32 x1) 2 rfl rfl 144 dX5_isTrue_112 (by decide) (fun h15 => ?_) (fun h15 => ?_)
          · replace hf := ieb h15 hf
            refine j_iinc dX5_isTrue_144 5 rfl [(4, pI (v4 + (-1))), (7, pI x1), (6, pI ((2400 * v1) + v5)), (0, pR (some G.1)), (1, pI v1), (3, pI v3), (5, pI v5)] (Nat.le_of_ble_eq_true rfl) rfl ?_
            refine j_aload_n dX5_isTrue_147 3 rfl ?_
            refine m_geta mf_60 rfl dX5_isTrue_148 ?_
            refine j_iload dX5_isTrue_151 0 rfl ?_
            refine j_iconst dX5_isTrue_153 ?_
            refine j_isub dX5_isTrue_154 ?_
            refine j_iload dX5_isTrue_155 1 rfl ?_
            refine j_iconst dX5_isTrue_157 ?_
            refine j_icmp_ne (w32 x1) 3 rfl rfl 191 dX5_isTrue_158 (by decide) (fun h12 => ?_) (fun h12 => ?_)
            · replace hf := ieb h12 hf
              refine j_aload_n dX5_isTrue_191 3 rfl ?_
              refine m_geta mf_60 rfl dX5_isTrue_192 ?_
              refine j_iload dX5_isTrue_195 0 rfl ?_
              refine j_iconst dX5_isTrue_197 ?_
              refine j_isub dX5_isTrue_198 ?_
              obtain ⟨x2, hx2, hf⟩ := obb hf
              refine m_zald mr_60 hx2 dX5_isTrue_199 ?_
              refine j_if_ne (w32 x2) rfl 213 dX5_isTrue_200 (by decide) (fun h6 => ?_) (fun h6 => ?_)
              · replace hf := ieb h6 hf
                exact j_sub [3, 4, 5, 0, 6] _ rfl (c5_isTrue_b213 (m5_isTrue_l6 v1 v3 n) ih hK0 (v4 + (-1)) v5 ((v4 + (-1)) - 1) u hf)
              · replace hf := itb h6 hf
                refine j_aload_n dX5_isTrue_203 3 rfl ?_
                refine m_geta mf_60 rfl dX5_isTrue_204 ?_
                refine j_iload dX5_isTrue_207 0 rfl ?_
                obtain ⟨x3, hx3, hf⟩ := obb hf
                refine m_zald mr_60 hx3 dX5_isTrue_209 ?_
                refine j_if_eq (w32 x3) rfl 217 dX5_isTrue_210 (by decide) (fun h5 => ?_) (fun h5 => ?_)
                · replace hf := itb h5 hf
                  refine j_iconst dX5_isTrue_217 ?_
                  obtain ⟨u4, hu4, hf⟩ := obb hf
                  refine m_zast mr_60 hu4 dX5_isTrue_218 ?_
                  refine j_iinc dX5_isTrue_219 6 rfl [(5, pI (v5 + 1)), (4, pI (v4 + (-1))), (7, pI x1), (6, pI ((2400 * v1) + v5)), (0, pR (some G.1)), (1, pI v1), (3, pI v3)] (Nat.le_of_ble_eq_true rfl) rfl ?_
                  refine j_goto 6 dX5_isTrue_222 (by decide) ?_
                  exact j_sub [4, 5, 6, 1, 0] _ rfl (ih (v4 + (-1)) (v5 + 1) u4 hf)
                · replace hf := ieb h5 hf
                  exact j_sub [3, 4, 5, 0, 6] _ rfl (c5_isTrue_b213 (m5_isTrue_l6 v1 v3 n) ih hK0 (v4 + (-1)) v5 ((v4 + (-1)) - 1) u hf)
            · replace hf := itb h12 hf
              refine j_aload_n dX5_isTrue_161 3 rfl ?_
              refine m_geta mf_60 rfl dX5_isTrue_162 ?_
              refine j_iload dX5_isTrue_165 0 rfl ?_
              refine j_iconst dX5_isTrue_167 ?_
              refine j_isub dX5_isTrue_168 ?_
              obtain ⟨x7, hx7, hf⟩ := obb hf
              refine m_zald mr_60 hx7 dX5_isTrue_169 ?_
              refine j_if_eq (w32 x7) rfl 187 dX5_isTrue_170 (by decide) (fun h11 => ?_) (fun h11 => ?_)
              · replace hf := itb h11 hf
                exact j_sub [3, 4, 5, 0, 6] _ rfl (c5_isTrue_b187 (m5_isTrue_l6 v1 v3 n) ih hK0 (v4 + (-1)) v5 ((v4 + (-1)) - 1) u hf)
              · replace hf := ieb h11 hf
                refine j_aload_n dX5_isTrue_173 3 rfl ?_
                refine m_geta mf_60 rfl dX5_isTrue_174 ?_
                refine j_iload dX5_isTrue_177 0 rfl ?_
                obtain ⟨x8, hx8, hf⟩ := obb hf
                refine m_zald mr_60 hx8 dX5_isTrue_179 ?_
                refine j_if_eq (w32 x8) rfl 187 dX5_isTrue_180 (by decide) (fun h10 => ?_) (fun h10 => ?_)
                · replace hf := itb h10 hf
                  exact j_sub [3, 4, 5, 0, 6] _ rfl (c5_isTrue_b187 (m5_isTrue_l6 v1 v3 n) ih hK0 (v4 + (-1)) v5 ((v4 + (-1)) - 1) u hf)
                · replace hf := ieb h10 hf
                  refine j_iconst dX5_isTrue_183 ?_
                  refine j_goto 218 dX5_isTrue_184 (by decide) ?_
                  obtain ⟨u9, hu9, hf⟩ := obb hf
                  refine m_zast mr_60 hu9 dX5_isTrue_218 ?_
                  refine j_iinc dX5_isTrue_219 6 rfl [(5, pI (v5 + 1)), (4, pI (v4 + (-1))), (7, pI x1), (6, pI ((2400 * v1) + v5)), (0, pR (some G.1)), (1, pI v1), (3, pI v3)] (Nat.le_of_ble_eq_true rfl) rfl ?_
                  refine j_goto 6 dX5_isTrue_222 (by decide) ?_
                  exact j_sub [4, 5, 6, 1, 0] _ rfl (ih (v4 + (-1)) (v5 + 1) u9 hf)
          · replace hf := itb h15 hf
            refine j_aload_n dX5_isTrue_115 2 rfl ?_
            refine m_geta mf_60 rfl dX5_isTrue_116 ?_
            refine j_iload dX5_isTrue_119 5 rfl ?_
            refine j_iconst dX5_isTrue_121 ?_
            refine j_isub dX5_isTrue_122 ?_
            refine j_aload_n dX5_isTrue_123 2 rfl ?_
            refine m_geta mf_60 rfl dX5_isTrue_124 ?_
            refine j_iload dX5_isTrue_127 5 rfl ?_
            refine j_iconst dX5_isTrue_129 ?_
            refine j_isub dX5_isTrue_130 ?_
            obtain ⟨x13, hx13, hf⟩ := obb hf
            refine m_zald mr_60 hx13 dX5_isTrue_131 ?_
            refine j_if_ne (w32 x13) rfl 139 dX5_isTrue_132 (by decide) (fun h14 => ?_) (fun h14 => ?_)
            · replace hf := ieb h14 hf
              refine j_iconst dX5_isTrue_139 ?_
              exact j_sub [2, 3, 4, 5, 6] _ rfl (c5_isTrue_b140 (m5_isTrue_l6 v1 v3 n) ih hK0 v4 v5 (v4 - 1) 0 u hf)
            · replace hf := itb h14 hf
              refine j_iconst dX5_isTrue_135 ?_
              refine j_goto 140 dX5_isTrue_136 (by decide) ?_
              exact j_sub [2, 3, 4, 5, 6] _ rfl (c5_isTrue_b140 (m5_isTrue_l6 v1 v3 n) ih hK0 v4 v5 (v4 - 1) 1 u hf)
        · replace hf := itb h19 hf
          refine j_aload_n dX5_isTrue_84 2 rfl ?_
          refine m_geta mf_60 rfl dX5_isTrue_85 ?_
          refine j_iload dX5_isTrue_88 5 rfl ?_
          refine j_aload_n dX5_isTrue_90 2 rfl ?_
          refine m_geta mf_61 rfl dX5_isTrue_91 ?_
          refine j_aload_n dX5_isTrue_94 2 rfl ?_
          refine m_geta mf_35 rfl dX5_isTrue_95 ?_
          refine j_iload dX5_isTrue_98 1 rfl ?_
          obtain ⟨x16, hx16, hf⟩ := obb hf
          refine m_bald mr_35 hx16 dX5_isTrue_100 ?_
          obtain ⟨x17, hx17, hf⟩ := obb hf
          refine m_zald mr_61 hx17 dX5_isTrue_101 ?_
          obtain ⟨u18, hu18, hf⟩ := obb hf
          refine m_zast mr_60 hu18 dX5_isTrue_102 ?_
          refine j_iinc dX5_isTrue_103 5 rfl [(4, pI (v4 + 1)), (7, pI x1), (6, pI ((2400 * v1) + v5)), (0, pR (some G.1)), (1, pI v1), (3, pI v3), (5, pI v5)] (Nat.le_of_ble_eq_true rfl) rfl ?_
          refine j_goto 219 dX5_isTrue_106 (by decide) ?_
          refine j_iinc dX5_isTrue_219 6 rfl [(5, pI (v5 + 1)), (4, pI (v4 + 1)), (7, pI x1), (6, pI ((2400 * v1) + v5)), (0, pR (some G.1)), (1, pI v1), (3, pI v3)] (Nat.le_of_ble_eq_true rfl) rfl ?_
          refine j_goto 6 dX5_isTrue_222 (by decide) ?_
          exact j_sub [4, 5, 6, 1, 0] _ rfl (ih (v4 + 1) (v5 + 1) u18 hf)
      · replace hf := itb h26 hf
        refine j_aload_n dX5_isTrue_36 2 rfl ?_
        refine m_geta mf_60 rfl dX5_isTrue_37 ?_
        refine j_iload dX5_isTrue_40 5 rfl ?_
        refine j_aload_n dX5_isTrue_42 2 rfl ?_
        refine m_geta mf_36 rfl dX5_isTrue_43 ?_
        refine j_iload dX5_isTrue_46 1 rfl ?_
        obtain ⟨x20, hx20, hf⟩ := obb hf
        refine m_bald mr_36 hx20 dX5_isTrue_48 ?_
        refine j_aload_n dX5_isTrue_49 2 rfl ?_
        refine m_geta mf_59 rfl dX5_isTrue_50 ?_
        refine j_aload_n dX5_isTrue_53 2 rfl ?_
        refine m_geta mf_35 rfl dX5_isTrue_54 ?_
        refine j_iload dX5_isTrue_57 1 rfl ?_
        obtain ⟨x21, hx21, hf⟩ := obb hf
        refine m_bald mr_35 hx21 dX5_isTrue_59 ?_
        obtain ⟨x22, hx22, hf⟩ := obb hf
        refine m_iald mr_59 hx22 dX5_isTrue_60 ?_
        refine j_aload_n dX5_isTrue_61 2 rfl ?_
        refine m_geta mf_37 rfl dX5_isTrue_62 ?_
        refine j_iload dX5_isTrue_65 1 rfl ?_
        obtain ⟨x23, hx23, hf⟩ := obb hf
        refine m_iald mr_37 hx23 dX5_isTrue_67 ?_
        obtain ⟨x24, hx24, hf⟩ := obb hf
        refine j_cSr [pI x20, pI x22, pI x23] [pI v4, pR (some (G.2.1 60))] kT_v (bM_mv G) (c5_holdsSign x20 x22 x23 u hx24) wv5_holdsSign dv5_holdsSign rfl ⟨(Nat.le_of_ble_eq_true rfl), (Nat.le_of_ble_eq_true rfl)⟩ rfl (Nat.le_of_ble_eq_true rfl) dX5_isTrue_68 ⟨Nat.le_refl 0, Nat.le_refl 0⟩ ?_
        obtain ⟨u25, hu25, hf⟩ := obb hf
        refine m_zast mr_60 hu25 dX5_isTrue_71 ?_
        refine j_iinc dX5_isTrue_72 5 rfl [(4, pI (v4 + 1)), (7, pI x1), (6, pI ((2400 * v1) + v5)), (0, pR (some G.1)), (1, pI v1), (3, pI v3), (5, pI v5)] (Nat.le_of_ble_eq_true rfl) rfl ?_
        refine j_goto 219 dX5_isTrue_75 (by decide) ?_
        refine j_iinc dX5_isTrue_219 6 rfl [(5, pI (v5 + 1)), (4, pI (v4 + 1)), (7, pI x1), (6, pI ((2400 * v1) + v5)), (0, pR (some G.1)), (1, pI v1), (3, pI v3)] (Nat.le_of_ble_eq_true rfl) rfl ?_
        refine j_goto 6 dX5_isTrue_222 (by decide) ?_
        exact j_sub [4, 5, 6, 1, 0] _ rfl (ih (v4 + 1) (v5 + 1) u25 hf)
theorem c5_isTrue {G : MG} {l : Launch} {r : Int × Mu} (v1 : Int) (v2 : Int) (v3 : Int) (u : Mu) (hf : m5_isTrue v1 v2 v3 u = some r) : JM kT (bM G) (aM G) l yX5_isTrue D5_isTrue [pR (some G.1), pI v1, pI v2, pI v3] u (some (pI r.1)) r.2 0 0 := by
  refine j_met (lv0 := [(0, pR (some G.1)), (1, pI v1), (2, pI v2), (3, pI v3)]) ⟨pl_X5, rfl, rfl, (Nat.le_of_ble_eq_true rfl), rfl⟩ ?_
  unfold m5_isTrue at hf
  refine j_iconst dX5_isTrue_0 ?_
  refine j_istore dX5_isTrue_1 [(4, pI 0), (0, pR (some G.1)), (1, pI v1), (2, pI v2), (3, pI v3)] (Nat.le_of_ble_eq_true rfl) rfl ?_
  refine j_iload_n dX5_isTrue_3 3 rfl ?_
  refine j_istore dX5_isTrue_4 [(5, pI v2), (4, pI 0), (0, pR (some G.1)), (1, pI v1), (2, pI v2), (3, pI v3)] (Nat.le_of_ble_eq_true rfl) rfl ?_
  refine j_sub [2, 3, 5, 1, 0] _ rfl (c5_isTrue_l6 v1 v3 ?_ NN 0 v2 u hf)
  · intro q1 hf
    refine j_aload_n dX5_isTrue_225 0 rfl ?_
    refine m_geta mf_60 rfl dX5_isTrue_226 ?_
    refine j_iconst dX5_isTrue_229 ?_
    obtain ⟨x2, hx2, hf⟩ := ob hf
    refine m_zald mr_60 hx2 dX5_isTrue_230 ?_
    rcases Decidable.em (w32 x2 = 0 ∨ w32 x2 = 1) with h3 | h3
    · replace hf := it h3 hf
      replace hf := Option.some.inj hf
      subst hf
      exact j_zreturn (x := x2) (bM_mv G) ⟨Nat.le_refl 0, Nat.le_refl 0⟩ (ty := .boolean) rfl (nar_z h3) dX5_isTrue_231
    · exact onn (ie h3 hf)
theorem c5_findMeant_l2 {G : MG} {l : Launch} {a : List PV} {r : Mu} {Kf : Mu → Option (Mu)} (v1 : Int) (hK0 : ∀ q : Mu, Kf q = some r → J5 G l D5_findMeant a none r q 51 [] []) : ∀ (n : Nat) (v2 : Int) (u : Mu), ((m5_findMeant_l2 v1 n v2 u).bind Kf = some r) → J5 G l D5_findMeant a none r u 2 [(0, pR (some G.1)), (1, pI v1), (2, pI v2)] [] := by
  intro n
  induction n with
  | zero => intro v2 u hf; exact onb hf
  | succ n ih =>
    intro v2 u hf
    unfold m5_findMeant_l2 at hf
    refine j_iload_n dX5_findMeant_2 2 rfl ?_
    refine j_aload_n dX5_findMeant_3 0 rfl ?_
    refine m_geta mf_19 rfl dX5_findMeant_4 ?_
    refine j_iload_n dX5_findMeant_7 1 rfl ?_
    obtain ⟨x1, hx1, hf⟩ := obb hf
    refine m_iald mr_19 hx1 dX5_findMeant_8 ?_
    refine j_icmp_ge (w32 v2) (w32 x1) rfl rfl 51 dX5_findMeant_9 (by decide) (fun h6 => ?_) (fun h6 => ?_)
    · replace hf := itb h6 hf
      exact j_sub [] _ rfl (hK0 u hf)
    · replace hf := ieb h6 hf
      refine j_aload_n dX5_findMeant_12 0 rfl ?_
      refine m_geta mf_61 rfl dX5_findMeant_13 ?_
      refine j_iload_n dX5_findMeant_16 2 rfl ?_
      refine j_aload_n dX5_findMeant_17 0 rfl ?_
      refine j_iload_n dX5_findMeant_18 1 rfl ?_
      refine j_aload_n dX5_findMeant_19 0 rfl ?_
      refine m_geta mf_21 rfl dX5_findMeant_20 ?_
      refine j_bipush dX5_findMeant_23 (by decide) ?_
      refine j_iload_n dX5_findMeant_25 1 rfl ?_
      refine j_imul dX5_findMeant_26 ?_
      refine j_iload_n dX5_findMeant_27 2 rfl ?_
      refine j_iadd dX5_findMeant_28 ?_
      obtain ⟨x2, hx2, hf⟩ := obb hf
      refine m_iald mr_21 hx2 dX5_findMeant_29 ?_
      refine j_aload_n dX5_findMeant_30 0 rfl ?_
      refine m_geta mf_22 rfl dX5_findMeant_31 ?_
      refine j_bipush dX5_findMeant_34 (by decide) ?_
      refine j_iload_n dX5_findMeant_36 1 rfl ?_
      refine j_imul dX5_findMeant_37 ?_
      refine j_iload_n dX5_findMeant_38 2 rfl ?_
      refine j_iadd dX5_findMeant_39 ?_
      obtain ⟨x3, hx3, hf⟩ := obb hf
      refine m_iald mr_22 hx3 dX5_findMeant_40 ?_
      obtain ⟨q4, hq4, hf⟩ := obb hf
      refine j_cVr [pI v1, pI x2, pI x3] [pI v2, pR (some (G.2.1 61))] kT_v (bM_mv G) (c5_isTrue v1 x2 x3 u hq4) wv5_isTrue dv5_isTrue rfl ⟨(Nat.le_of_ble_eq_true rfl), (Nat.le_of_ble_eq_true rfl)⟩ (m_recv u) rfl (Nat.le_of_ble_eq_true rfl) dX5_findMeant_41 ⟨Nat.le_refl 0, Nat.le_refl 0⟩ ?_
      obtain ⟨u5, hu5, hf⟩ := obb hf
      refine m_zast mr_61 hu5 dX5_findMeant_44 ?_
      refine j_iinc dX5_findMeant_45 2 rfl [(2, pI (v2 + 1)), (0, pR (some G.1)), (1, pI v1)] (Nat.le_of_ble_eq_true rfl) rfl ?_
      refine j_goto 2 dX5_findMeant_48 (by decide) ?_
      exact j_sub [1, 2, 0] _ rfl (ih (v2 + 1) u5 hf)
theorem c5_findMeant {G : MG} {l : Launch} {r : Mu} (v1 : Int) (u : Mu) (hf : m5_findMeant v1 u = some r) : JM kT (bM G) (aM G) l yX5_findMeant D5_findMeant [pR (some G.1), pI v1] u none r 0 0 := by
  refine j_met (lv0 := [(0, pR (some G.1)), (1, pI v1)]) ⟨pl_X5, rfl, rfl, (Nat.le_of_ble_eq_true rfl), rfl⟩ ?_
  unfold m5_findMeant at hf
  refine j_iconst dX5_findMeant_0 ?_
  refine j_istore_n dX5_findMeant_1 [(2, pI 0), (0, pR (some G.1)), (1, pI v1)] (Nat.le_of_ble_eq_true rfl) rfl ?_
  refine j_sub [1, 2, 0] _ rfl (c5_findMeant_l2 v1 ?_ NN 0 u hf)
  · intro q1 hf
    replace hf := Option.some.inj hf
    subst hf
    exact j_return (bM_mv G) ⟨Nat.le_refl 0, Nat.le_refl 0⟩ rfl dX5_findMeant_51
theorem c5_answers_b116 {G : MG} {l : Launch} {a : List PV} {r : Int × Mu} {Kf : Int × Mu → Option (Int × Mu)} {v1 : Int} (kh : Int → Int → Int → Mu → Option (Int × Mu)) (hkh : ∀ (z2 : Int) (z3 : Int) (z4 : Int) (zu : Mu), ((kh z2 z3 z4 zu).bind Kf = some r) → J5 G l D5_answers a (some (pI r.1)) r.2 zu 17 [(0, pR (some G.1)), (1, pI v1), (2, pI z2), (3, pI z3), (4, pI z4)] []) (hK0 : ∀ q : Int × Mu, Kf q = some r → J5 G l D5_answers a (some (pI r.1)) r.2 q.2 131 [(2, pI q.1)] []) (v2 : Int) (v4 : Int) (s0 : Int) (u : Mu) (hf : (m5_answers_b116 kh v1 v2 v4 s0 u).bind Kf = some r) : J5 G l D5_answers a (some (pI r.1)) r.2 u 116 [(0, pR (some G.1)), (1, pI v1), (2, pI v2), (4, pI v4)] [pI s0] := by
  unfold m5_answers_b116 at hf
  refine j_istore_n dX5_answers_116 [(3, pI s0), (0, pR (some G.1)), (1, pI v1), (2, pI v2), (4, pI v4)] (Nat.le_of_ble_eq_true rfl) rfl ?_
  refine j_aload_n dX5_answers_117 1 rfl ?_
  refine j_iload dX5_answers_118 4 rfl ?_
  refine j_iconst dX5_answers_120 ?_
  refine j_iadd dX5_answers_121 ?_
  obtain ⟨u1, hu1, hf⟩ := obb hf
  refine m_puti_ hu1 mf_62 mfw_62 rfl dX5_answers_122 ?_
  refine j_iinc dX5_answers_125 4 rfl [(4, pI (v4 + 1)), (3, pI s0), (0, pR (some G.1)), (1, pI v1), (2, pI v2)] (Nat.le_of_ble_eq_true rfl) rfl ?_
  refine j_goto 17 dX5_answers_128 (by decide) ?_
  exact j_sub [2, 3, 4, 1, 0] _ rfl (hkh v2 s0 (v4 + 1) u1 hf)
theorem c5_answers_b111 {G : MG} {l : Launch} {a : List PV} {r : Int × Mu} {Kf : Int × Mu → Option (Int × Mu)} {v1 : Int} (kh : Int → Int → Int → Mu → Option (Int × Mu)) (hkh : ∀ (z2 : Int) (z3 : Int) (z4 : Int) (zu : Mu), ((kh z2 z3 z4 zu).bind Kf = some r) → J5 G l D5_answers a (some (pI r.1)) r.2 zu 17 [(0, pR (some G.1)), (1, pI v1), (2, pI z2), (3, pI z3), (4, pI z4)] []) (hK0 : ∀ q : Int × Mu, Kf q = some r → J5 G l D5_answers a (some (pI r.1)) r.2 q.2 131 [(2, pI q.1)] []) (v2 : Int) (v4 : Int) (u : Mu) (hf : (m5_answers_b111 kh v1 v2 v4 u).bind Kf = some r) : J5 G l D5_answers a (some (pI r.1)) r.2 u 111 [(0, pR (some G.1)), (1, pI v1), (2, pI v2), (4, pI v4)] [] := by
  unfold m5_answers_b111 at hf
  refine j_iconst dX5_answers_111 ?_
  refine j_goto 116 dX5_answers_112 (by decide) ?_
  exact j_sub [0, 1, 2, 3] _ rfl (c5_answers_b116 (kh) hkh hK0 v2 v4 1 u hf)
theorem c5_answers_b96 {G : MG} {l : Launch} {a : List PV} {r : Int × Mu} {Kf : Int × Mu → Option (Int × Mu)} {v1 : Int} (kh : Int → Int → Int → Mu → Option (Int × Mu)) (hkh : ∀ (z2 : Int) (z3 : Int) (z4 : Int) (zu : Mu), ((kh z2 z3 z4 zu).bind Kf = some r) → J5 G l D5_answers a (some (pI r.1)) r.2 zu 17 [(0, pR (some G.1)), (1, pI v1), (2, pI z2), (3, pI z3), (4, pI z4)] []) (hK0 : ∀ q : Int × Mu, Kf q = some r → J5 G l D5_answers a (some (pI r.1)) r.2 q.2 131 [(2, pI q.1)] []) (v3 : Int) (v4 : Int) (v5 : Int) (s0 : Int) (u : Mu) (hf : (m5_answers_b96 kh v1 v3 v4 v5 s0 u).bind Kf = some r) : J5 G l D5_answers a (some (pI r.1)) r.2 u 96 [(0, pR (some G.1)), (1, pI v1), (3, pI v3), (4, pI v4), (5, pI v5)] [pI s0] := by
  unfold m5_answers_b96 at hf
  refine j_istore_n dX5_answers_96 [(2, pI s0), (0, pR (some G.1)), (1, pI v1), (3, pI v3), (4, pI v4), (5, pI v5)] (Nat.le_of_ble_eq_true rfl) rfl ?_
  refine j_iload_n dX5_answers_97 3 rfl ?_
  refine j_if_ne (w32 v3) rfl 111 dX5_answers_98 (by decide) (fun h3 => ?_) (fun h3 => ?_)
  · replace hf := ieb h3 hf
    exact j_sub [1, 2, 0, 4] _ rfl (c5_answers_b111 (kh) hkh hK0 s0 v4 u hf)
  · replace hf := itb h3 hf
    refine j_aload_n dX5_answers_101 1 rfl ?_
    refine m_geta mf_24 rfl dX5_answers_102 ?_
    refine j_iload dX5_answers_105 5 rfl ?_
    obtain ⟨x1, hx1, hf⟩ := obb hf
    refine m_iald mr_24 hx1 dX5_answers_107 ?_
    refine j_if_ne (w32 x1) rfl 115 dX5_answers_108 (by decide) (fun h2 => ?_) (fun h2 => ?_)
    · replace hf := ieb h2 hf
      refine j_iconst dX5_answers_115 ?_
      exact j_sub [1, 2, 0, 4] _ rfl (c5_answers_b116 (kh) hkh hK0 s0 v4 0 u hf)
    · replace hf := itb h2 hf
      exact j_sub [1, 2, 0, 4] _ rfl (c5_answers_b111 (kh) hkh hK0 s0 v4 u hf)
theorem c5_answers_b80 {G : MG} {l : Launch} {a : List PV} {r : Int × Mu} {Kf : Int × Mu → Option (Int × Mu)} {v1 : Int} (kh : Int → Int → Int → Mu → Option (Int × Mu)) (hkh : ∀ (z2 : Int) (z3 : Int) (z4 : Int) (zu : Mu), ((kh z2 z3 z4 zu).bind Kf = some r) → J5 G l D5_answers a (some (pI r.1)) r.2 zu 17 [(0, pR (some G.1)), (1, pI v1), (2, pI z2), (3, pI z3), (4, pI z4)] []) (hK0 : ∀ q : Int × Mu, Kf q = some r → J5 G l D5_answers a (some (pI r.1)) r.2 q.2 131 [(2, pI q.1)] []) (v3 : Int) (v4 : Int) (v5 : Int) (u : Mu) (hf : (m5_answers_b80 kh v1 v3 v4 v5 u).bind Kf = some r) : J5 G l D5_answers a (some (pI r.1)) r.2 u 80 [(0, pR (some G.1)), (1, pI v1), (3, pI v3), (4, pI v4), (5, pI v5)] [] := by
  unfold m5_answers_b80 at hf
  refine j_aload_n dX5_answers_80 0 rfl ?_
  refine m_geta mf_24 rfl dX5_answers_81 ?_
  refine j_iload dX5_answers_84 4 rfl ?_
  obtain ⟨x1, hx1, hf⟩ := obb hf
  refine m_iald mr_24 hx1 dX5_answers_86 ?_
  refine j_iconst dX5_answers_87 ?_
  refine j_icmp_eq (w32 x1) 1 rfl rfl 95 dX5_answers_88 (by decide) (fun h2 => ?_) (fun h2 => ?_)
  · replace hf := itb h2 hf
    refine j_iconst dX5_answers_95 ?_
    exact j_sub [0, 1, 2, 3, 4] _ rfl (c5_answers_b96 (kh) hkh hK0 v3 v4 v5 0 u hf)
  · replace hf := ieb h2 hf
    refine j_iconst dX5_answers_91 ?_
    refine j_goto 96 dX5_answers_92 (by decide) ?_
    exact j_sub [0, 1, 2, 3, 4] _ rfl (c5_answers_b96 (kh) hkh hK0 v3 v4 v5 1 u hf)
theorem c5_answers_l17 {G : MG} {l : Launch} {a : List PV} {r : Int × Mu} {Kf : Int × Mu → Option (Int × Mu)} (v1 : Int) (hK0 : ∀ q : Int × Mu, Kf q = some r → J5 G l D5_answers a (some (pI r.1)) r.2 q.2 131 [(2, pI q.1)] []) : ∀ (n : Nat) (v2 : Int) (v3 : Int) (v4 : Int) (u : Mu), ((m5_answers_l17 v1 n v2 v3 v4 u).bind Kf = some r) → J5 G l D5_answers a (some (pI r.1)) r.2 u 17 [(0, pR (some G.1)), (1, pI v1), (2, pI v2), (3, pI v3), (4, pI v4)] [] := by
  intro n
  induction n with
  | zero => intro v2 v3 v4 u hf; exact onb hf
  | succ n ih =>
    intro v2 v3 v4 u hf
    unfold m5_answers_l17 at hf
    refine j_iload dX5_answers_17 4 rfl ?_
    refine j_aload_n dX5_answers_19 0 rfl ?_
    refine m_geta mf_23 rfl dX5_answers_20 ?_
    refine j_iload_n dX5_answers_23 1 rfl ?_
    obtain ⟨x1, hx1, hf⟩ := obb hf
    refine m_iald mr_23 hx1 dX5_answers_24 ?_
    refine j_icmp_ge (w32 v4) (w32 x1) rfl rfl 131 dX5_answers_25 (by decide) (fun h9 => ?_) (fun h9 => ?_)
    · replace hf := itb h9 hf
      exact j_sub [2] _ rfl (hK0 (v2, u) hf)
    · replace hf := ieb h9 hf
      refine j_bipush dX5_answers_28 (by decide) ?_
      refine j_iload_n dX5_answers_30 1 rfl ?_
      refine j_imul dX5_answers_31 ?_
      refine j_iload dX5_answers_32 4 rfl ?_
      refine j_iadd dX5_answers_34 ?_
      refine j_istore dX5_answers_35 [(5, pI ((24 * v1) + v4)), (0, pR (some G.1)), (1, pI v1), (2, pI v2), (3, pI v3), (4, pI v4)] (Nat.le_of_ble_eq_true rfl) rfl ?_
      refine j_aload_n dX5_answers_37 1 rfl ?_
      refine j_iload_n dX5_answers_38 2 rfl ?_
      refine j_aload_n dX5_answers_39 1 rfl ?_
      refine m_geta mf_25 rfl dX5_answers_40 ?_
      refine j_iload dX5_answers_43 0 rfl ?_
      obtain ⟨x2, hx2, hf⟩ := obb hf
      refine m_iald mr_25 hx2 dX5_answers_45 ?_
      refine j_aload_n dX5_answers_46 1 rfl ?_
      refine m_geta mf_26 rfl dX5_answers_47 ?_
      refine j_iload dX5_answers_50 0 rfl ?_
      obtain ⟨x3, hx3, hf⟩ := obb hf
      refine m_iald mr_26 hx3 dX5_answers_52 ?_
      obtain ⟨q4, hq4, hf⟩ := obb hf
      refine j_cVr [pI v1, pI x2, pI x3] [] kT_v (bM_mv G) (c5_isTrue v1 x2 x3 u hq4) wv5_isTrue dv5_isTrue rfl ⟨(Nat.le_of_ble_eq_true rfl), (Nat.le_of_ble_eq_true rfl)⟩ (m_recv u) rfl (Nat.le_of_ble_eq_true rfl) dX5_answers_53 ⟨Nat.le_refl 0, Nat.le_refl 0⟩ ?_
      refine j_if_ne (w32 q4.1) rfl 62 dX5_answers_56 (by decide) (fun h8 => ?_) (fun h8 => ?_)
      · replace hf := ieb h8 hf
        refine j_aload_n dX5_answers_62 1 rfl ?_
        refine m_geta mf_24 rfl dX5_answers_63 ?_
        refine j_iload dX5_answers_66 0 rfl ?_
        obtain ⟨x5, hx5, hf⟩ := obb hf
        refine m_iald mr_24 hx5 dX5_answers_68 ?_
        refine j_iconst dX5_answers_69 ?_
        refine j_icmp_ne (w32 x5) 2 rfl rfl 80 dX5_answers_70 (by decide) (fun h7 => ?_) (fun h7 => ?_)
        · replace hf := ieb h7 hf
          exact j_sub [1, 2, 4, 5, 0] _ rfl (c5_answers_b80 (m5_answers_l17 v1 n) ih hK0 v3 v4 ((24 * v1) + v4) q4.2 hf)
        · replace hf := itb h7 hf
          refine j_iload_n dX5_answers_73 4 rfl ?_
          refine j_if_ne (w32 v3) rfl 80 dX5_answers_74 (by decide) (fun h6 => ?_) (fun h6 => ?_)
          · replace hf := ieb h6 hf
            exact j_sub [1, 2, 4, 5, 0] _ rfl (c5_answers_b80 (m5_answers_l17 v1 n) ih hK0 v3 v4 ((24 * v1) + v4) q4.2 hf)
          · replace hf := itb h6 hf
            refine j_goto 125 dX5_answers_77 (by decide) ?_
            refine j_iinc dX5_answers_125 5 rfl [(4, pI (v4 + 1)), (5, pI ((24 * v1) + v4)), (0, pR (some G.1)), (1, pI v1), (2, pI v2), (3, pI v3)] (Nat.le_of_ble_eq_true rfl) rfl ?_
            refine j_goto 17 dX5_answers_128 (by decide) ?_
            exact j_sub [2, 3, 4, 5, 0] _ rfl (ih v2 v3 (v4 + 1) q4.2 hf)
      · replace hf := itb h8 hf
        refine j_goto 125 dX5_answers_59 (by decide) ?_
        refine j_iinc dX5_answers_125 5 rfl [(4, pI (v4 + 1)), (5, pI ((24 * v1) + v4)), (0, pR (some G.1)), (1, pI v1), (2, pI v2), (3, pI v3)] (Nat.le_of_ble_eq_true rfl) rfl ?_
        refine j_goto 17 dX5_answers_128 (by decide) ?_
        exact j_sub [2, 3, 4, 5, 0] _ rfl (ih v2 v3 (v4 + 1) q4.2 hf)
theorem c5_answers {G : MG} {l : Launch} {r : Int × Mu} (v1 : Int) (u : Mu) (hf : m5_answers v1 u = some r) : JM kT (bM G) (aM G) l yX5_answers D5_answers [pR (some G.1), pI v1] u (some (pI r.1)) r.2 0 0 := by
  refine j_met (lv0 := [(0, pR (some G.1)), (1, pI v1)]) ⟨pl_X5, rfl, rfl, (Nat.le_of_ble_eq_true rfl), rfl⟩ ?_
  unfold m5_answers at hf
  refine j_aload_n dX5_answers_0 0 rfl ?_
  refine j_iload_n dX5_answers_1 1 rfl ?_
  obtain ⟨u1, hu1, hf⟩ := ob hf
  refine j_cVv [pI v1] [] kT_v (bM_mv G) (c5_findMeant v1 u hu1) wv5_findMeant dv5_findMeant rfl ⟨(Nat.le_of_ble_eq_true rfl), (Nat.le_of_ble_eq_true rfl)⟩ (m_recv u) rfl (Nat.le_of_ble_eq_true rfl) dX5_answers_2 ⟨Nat.le_refl 0, Nat.le_refl 0⟩ ?_
  refine j_iconst dX5_answers_5 ?_
  refine j_istore_n dX5_answers_6 [(2, pI 0), (0, pR (some G.1)), (1, pI v1)] (Nat.le_of_ble_eq_true rfl) rfl ?_
  refine j_iconst dX5_answers_7 ?_
  refine j_istore_n dX5_answers_8 [(3, pI 0), (2, pI 0), (0, pR (some G.1)), (1, pI v1)] (Nat.le_of_ble_eq_true rfl) rfl ?_
  refine j_aload_n dX5_answers_9 2 rfl ?_
  refine j_iconst dX5_answers_10 ?_
  obtain ⟨u2, hu2, hf⟩ := ob hf
  refine m_puti_ hu2 mf_62 mfw_62 rfl dX5_answers_11 ?_
  refine j_iconst dX5_answers_14 ?_
  refine j_istore dX5_answers_15 [(4, pI 0), (3, pI 0), (2, pI 0), (0, pR (some G.1)), (1, pI v1)] (Nat.le_of_ble_eq_true rfl) rfl ?_
  refine j_sub [3, 4, 2, 1, 0] _ rfl (c5_answers_l17 v1 ?_ NN 0 0 0 u2 hf)
  · intro q3 hf
    refine j_iload_n dX5_answers_131 0 rfl ?_
    rcases Decidable.em (w32 q3.1 = 0 ∨ w32 q3.1 = 1) with h4 | h4
    · replace hf := it h4 hf
      replace hf := Option.some.inj hf
      subst hf
      exact j_zreturn (x := q3.1) (bM_mv G) ⟨Nat.le_refl 0, Nat.le_refl 0⟩ (ty := .boolean) rfl (nar_z h4) dX5_answers_132
    · exact onn (ie h4 hf)
theorem c5_insertStart_l3 {G : MG} {l : Launch} {a : List PV} {r : Int × Mu} {Kf : Int → Option (Int × Mu)} (v1 : Int) (v2 : Int) (v3 : Int) (u : Mu) (hK0 : ∀ q : Int, Kf q = some r → J5 G l D5_insertStart a (some (pI r.1)) r.2 u 33 [(0, pR (some G.1)), (1, pI v1), (2, pI v2), (3, pI v3), (4, pI q)] []) : ∀ (n : Nat) (v4 : Int), ((m5_insertStart_l3 v1 v2 v3 u n v4).bind Kf = some r) → J5 G l D5_insertStart a (some (pI r.1)) r.2 u 3 [(0, pR (some G.1)), (1, pI v1), (2, pI v2), (3, pI v3), (4, pI v4)] [] := by
  intro n
  induction n with
  | zero => intro v4 hf; exact onb hf
  | succ n ih =>
    intro v4 hf
    unfold m5_insertStart_l3 at hf
    refine j_iload dX5_insertStart_3 4 rfl ?_
    refine j_if_le (w32 v4) rfl 33 dX5_insertStart_5 (by decide) (fun h3 => ?_) (fun h3 => ?_)
    · replace hf := itb h3 hf
      exact j_sub [0, 1, 2, 3, 4] _ rfl (hK0 v4 hf)
    · replace hf := ieb h3 hf
      refine j_aload_n dX5_insertStart_8 0 rfl ?_
      refine m_geta mf_38 rfl dX5_insertStart_9 ?_
      refine j_sipush dX5_insertStart_12 (by decide) ?_
      refine j_iload_n dX5_insertStart_15 1 rfl ?_
      refine j_imul dX5_insertStart_16 ?_
      refine j_iload dX5_insertStart_17 4 rfl ?_
      refine j_iadd dX5_insertStart_19 ?_
      refine j_iconst dX5_insertStart_20 ?_
      refine j_isub dX5_insertStart_21 ?_
      obtain ⟨x1, hx1, hf⟩ := obb hf
      refine m_iald mr_38 hx1 dX5_insertStart_22 ?_
      refine j_iload_n dX5_insertStart_23 3 rfl ?_
      refine j_icmp_lt (w32 x1) (w32 v3) rfl rfl 33 dX5_insertStart_24 (by decide) (fun h2 => ?_) (fun h2 => ?_)
      · replace hf := itb h2 hf
        exact j_sub [0, 1, 2, 3, 4] _ rfl (hK0 v4 hf)
      · replace hf := ieb h2 hf
        refine j_iinc dX5_insertStart_27 4 rfl [(4, pI (v4 + (-1))), (0, pR (some G.1)), (1, pI v1), (2, pI v2), (3, pI v3)] (Nat.le_of_ble_eq_true rfl) rfl ?_
        refine j_goto 3 dX5_insertStart_30 (by decide) ?_
        exact j_sub [1, 2, 3, 4, 0] _ rfl (ih (v4 + (-1)) hf)
theorem c5_insertStart_l61 {G : MG} {l : Launch} {a : List PV} {r : Int × Mu} {Kf : Mu → Option (Int × Mu)} (v1 : Int) (v2 : Int) (v3 : Int) (v4 : Int) (hK0 : ∀ q : Mu, Kf q = some r → J5 G l D5_insertStart a (some (pI r.1)) r.2 q 102 [(0, pR (some G.1)), (1, pI v1), (2, pI v2), (3, pI v3), (4, pI v4)] []) : ∀ (n : Nat) (v5 : Int) (u : Mu), ((m5_insertStart_l61 v1 v2 v3 v4 n v5 u).bind Kf = some r) → J5 G l D5_insertStart a (some (pI r.1)) r.2 u 61 [(0, pR (some G.1)), (1, pI v1), (2, pI v2), (3, pI v3), (4, pI v4), (5, pI v5)] [] := by
  intro n
  induction n with
  | zero => intro v5 u hf; exact onb hf
  | succ n ih =>
    intro v5 u hf
    unfold m5_insertStart_l61 at hf
    refine j_iload dX5_insertStart_61 5 rfl ?_
    refine j_iload dX5_insertStart_63 4 rfl ?_
    refine j_icmp_le (w32 v5) (w32 v4) rfl rfl 102 dX5_insertStart_65 (by decide) (fun h3 => ?_) (fun h3 => ?_)
    · replace hf := itb h3 hf
      exact j_sub [0, 1, 2, 3, 4] _ rfl (hK0 u hf)
    · replace hf := ieb h3 hf
      refine j_aload_n dX5_insertStart_68 0 rfl ?_
      refine m_geta mf_38 rfl dX5_insertStart_69 ?_
      refine j_sipush dX5_insertStart_72 (by decide) ?_
      refine j_iload_n dX5_insertStart_75 1 rfl ?_
      refine j_imul dX5_insertStart_76 ?_
      refine j_iload dX5_insertStart_77 5 rfl ?_
      refine j_iadd dX5_insertStart_79 ?_
      refine j_aload_n dX5_insertStart_80 0 rfl ?_
      refine m_geta mf_38 rfl dX5_insertStart_81 ?_
      refine j_sipush dX5_insertStart_84 (by decide) ?_
      refine j_iload_n dX5_insertStart_87 1 rfl ?_
      refine j_imul dX5_insertStart_88 ?_
      refine j_iload dX5_insertStart_89 5 rfl ?_
      refine j_iadd dX5_insertStart_91 ?_
      refine j_iconst dX5_insertStart_92 ?_
      refine j_isub dX5_insertStart_93 ?_
      obtain ⟨x1, hx1, hf⟩ := obb hf
      refine m_iald mr_38 hx1 dX5_insertStart_94 ?_
      obtain ⟨u2, hu2, hf⟩ := obb hf
      refine m_iast mr_38 hu2 dX5_insertStart_95 ?_
      refine j_iinc dX5_insertStart_96 5 rfl [(5, pI (v5 + (-1))), (0, pR (some G.1)), (1, pI v1), (2, pI v2), (3, pI v3), (4, pI v4)] (Nat.le_of_ble_eq_true rfl) rfl ?_
      refine j_goto 61 dX5_insertStart_99 (by decide) ?_
      exact j_sub [1, 2, 3, 4, 5, 0] _ rfl (ih (v5 + (-1)) u2 hf)
theorem c5_insertStart_b58 {G : MG} {l : Launch} {a : List PV} {r : Int × Mu} (v1 : Int) (v2 : Int) (v3 : Int) (v4 : Int) (u : Mu) (hf : m5_insertStart_b58 v1 v2 v3 v4 u = some r) : J5 G l D5_insertStart a (some (pI r.1)) r.2 u 58 [(0, pR (some G.1)), (1, pI v1), (2, pI v2), (3, pI v3), (4, pI v4)] [] := by
  unfold m5_insertStart_b58 at hf
  refine j_iload_n dX5_insertStart_58 2 rfl ?_
  refine j_istore dX5_insertStart_59 [(5, pI v2), (0, pR (some G.1)), (1, pI v1), (2, pI v2), (3, pI v3), (4, pI v4)] (Nat.le_of_ble_eq_true rfl) rfl ?_
  refine j_sub [1, 2, 3, 4, 5, 0] _ rfl (c5_insertStart_l61 v1 v2 v3 v4 ?_ NN v2 u hf)
  · intro q1 hf
    refine j_aload_n dX5_insertStart_102 0 rfl ?_
    refine m_geta mf_38 rfl dX5_insertStart_103 ?_
    refine j_sipush dX5_insertStart_106 (by decide) ?_
    refine j_iload_n dX5_insertStart_109 1 rfl ?_
    refine j_imul dX5_insertStart_110 ?_
    refine j_iload dX5_insertStart_111 4 rfl ?_
    refine j_iadd dX5_insertStart_113 ?_
    refine j_iload_n dX5_insertStart_114 3 rfl ?_
    obtain ⟨u2, hu2, hf⟩ := ob hf
    refine m_iast mr_38 hu2 dX5_insertStart_115 ?_
    refine j_iload_n dX5_insertStart_116 2 rfl ?_
    refine j_iconst dX5_insertStart_117 ?_
    refine j_iadd dX5_insertStart_118 ?_
    replace hf := Option.some.inj hf
    subst hf
    exact j_ireturn (bM_mv G) ⟨Nat.le_refl 0, Nat.le_refl 0⟩ rfl dX5_insertStart_119
theorem c5_insertStart_b33 {G : MG} {l : Launch} {a : List PV} {r : Int × Mu} (v1 : Int) (v2 : Int) (v3 : Int) (v4 : Int) (u : Mu) (hf : m5_insertStart_b33 v1 v2 v3 v4 u = some r) : J5 G l D5_insertStart a (some (pI r.1)) r.2 u 33 [(0, pR (some G.1)), (1, pI v1), (2, pI v2), (3, pI v3), (4, pI v4)] [] := by
  unfold m5_insertStart_b33 at hf
  refine j_iload dX5_insertStart_33 4 rfl ?_
  refine j_iload_n dX5_insertStart_35 2 rfl ?_
  refine j_icmp_ge (w32 v4) (w32 v2) rfl rfl 58 dX5_insertStart_36 (by decide) (fun h3 => ?_) (fun h3 => ?_)
  · replace hf := it h3 hf
    exact j_sub [0, 1, 2, 3, 4] _ rfl (c5_insertStart_b58 v1 v2 v3 v4 u hf)
  · replace hf := ie h3 hf
    refine j_aload_n dX5_insertStart_39 0 rfl ?_
    refine m_geta mf_38 rfl dX5_insertStart_40 ?_
    refine j_sipush dX5_insertStart_43 (by decide) ?_
    refine j_iload_n dX5_insertStart_46 1 rfl ?_
    refine j_imul dX5_insertStart_47 ?_
    refine j_iload dX5_insertStart_48 4 rfl ?_
    refine j_iadd dX5_insertStart_50 ?_
    obtain ⟨x1, hx1, hf⟩ := ob hf
    refine m_iald mr_38 hx1 dX5_insertStart_51 ?_
    refine j_iload_n dX5_insertStart_52 3 rfl ?_
    refine j_icmp_ne (w32 x1) (w32 v3) rfl rfl 58 dX5_insertStart_53 (by decide) (fun h2 => ?_) (fun h2 => ?_)
    · replace hf := ie h2 hf
      exact j_sub [0, 1, 2, 3, 4] _ rfl (c5_insertStart_b58 v1 v2 v3 v4 u hf)
    · replace hf := it h2 hf
      refine j_iload_n dX5_insertStart_56 2 rfl ?_
      replace hf := Option.some.inj hf
      subst hf
      exact j_ireturn (bM_mv G) ⟨Nat.le_refl 0, Nat.le_refl 0⟩ rfl dX5_insertStart_57
theorem c5_insertStart {G : MG} {l : Launch} {r : Int × Mu} (v1 : Int) (v2 : Int) (v3 : Int) (u : Mu) (hf : m5_insertStart v1 v2 v3 u = some r) : JM kT (bM G) (aM G) l yX5_insertStart D5_insertStart [pR (some G.1), pI v1, pI v2, pI v3] u (some (pI r.1)) r.2 0 0 := by
  refine j_met (lv0 := [(0, pR (some G.1)), (1, pI v1), (2, pI v2), (3, pI v3)]) ⟨pl_X5, rfl, rfl, (Nat.le_of_ble_eq_true rfl), rfl⟩ ?_
  unfold m5_insertStart at hf
  refine j_iload_n dX5_insertStart_0 2 rfl ?_
  refine j_istore dX5_insertStart_1 [(4, pI v2), (0, pR (some G.1)), (1, pI v1), (2, pI v2), (3, pI v3)] (Nat.le_of_ble_eq_true rfl) rfl ?_
  refine j_sub [1, 2, 3, 4, 0] _ rfl (c5_insertStart_l3 v1 v2 v3 u ?_ NN v2 hf)
  · intro q1 hf
    exact j_sub [0, 1, 2, 3, 4] _ rfl (c5_insertStart_b33 v1 v2 v3 q1 u hf)
theorem c5_findStarts_l126 {G : MG} {l : Launch} {a : List PV} {r : Mu} {Kf : Int × Mu → Option (Mu)} (v1 : Int) (v2 : Int) (v3 : Int) (v5 : Int) (v6 : Int) (hK0 : ∀ q : Int × Mu, Kf q = some r → J5 G l D5_findStarts a none r q.2 226 [(0, pR (some G.1)), (1, pI v1), (2, pI v2), (3, pI v3), (4, pI q.1), (5, pI v5)] []) : ∀ (n : Nat) (v4 : Int) (v7 : Int) (u : Mu), ((m5_findStarts_l126 v1 v2 v3 v5 v6 n v4 v7 u).bind Kf = some r) → J5 G l D5_findStarts a none r u 126 [(0, pR (some G.1)), (1, pI v1), (2, pI v2), (3, pI v3), (4, pI v4), (5, pI v5), (6, pI v6), (7, pI v7)] [] := by
  intro n
  induction n with
  | zero => intro v4 v7 u hf; exact onb hf
  | succ n ih =>
    intro v4 v7 u hf
    unfold m5_findStarts_l126 at hf
    refine j_iload dX5_findStarts_126 7 rfl ?_
    refine j_iconst dX5_findStarts_128 ?_
    refine j_icmp_ge (w32 v7) 2 rfl rfl 226 dX5_findStarts_129 (by decide) (fun h14 => ?_) (fun h14 => ?_)
    · replace hf := itb h14 hf
      exact j_sub [0, 1, 2, 3, 4, 5] _ rfl (hK0 (v4, u) hf)
    · replace hf := ieb h14 hf
      refine j_aload_n dX5_findStarts_132 0 rfl ?_
      refine m_geta mf_37 rfl dX5_findStarts_133 ?_
      refine j_iload dX5_findStarts_136 6 rfl ?_
      obtain ⟨x1, hx1, hf⟩ := obb hf
      refine m_iald mr_37 hx1 dX5_findStarts_138 ?_
      refine j_iload dX5_findStarts_139 7 rfl ?_
      refine j_iadd dX5_findStarts_141 ?_
      refine j_istore dX5_findStarts_142 [(8, pI (x1 + v7)), (0, pR (some G.1)), (1, pI v1), (2, pI v2), (3, pI v3), (4, pI v4), (5, pI v5), (6, pI v6), (7, pI v7)] (Nat.le_of_ble_eq_true rfl) rfl ?_
      refine j_iload dX5_findStarts_144 0 rfl ?_
      refine j_aload_n dX5_findStarts_146 1 rfl ?_
      refine m_geta mf_17 rfl dX5_findStarts_147 ?_
      refine j_iload_n dX5_findStarts_150 4 rfl ?_
      obtain ⟨x2, hx2, hf⟩ := obb hf
      refine m_iald mr_17 hx2 dX5_findStarts_151 ?_
      refine j_icmp_le (w32 (x1 + v7)) (w32 x2) rfl rfl 220 dX5_findStarts_152 (by decide) (fun h13 => ?_) (fun h13 => ?_)
      · replace hf := itb h13 hf
        refine j_iinc dX5_findStarts_220 8 rfl [(7, pI (v7 + 1)), (8, pI (x1 + v7)), (0, pR (some G.1)), (1, pI v1), (2, pI v2), (3, pI v3), (4, pI v4), (5, pI v5), (6, pI v6)] (Nat.le_of_ble_eq_true rfl) rfl ?_
        refine j_goto 126 dX5_findStarts_223 (by decide) ?_
        exact j_sub [2, 3, 4, 5, 6, 7, 8, 0] _ rfl (ih v4 (v7 + 1) u hf)
      · replace hf := ieb h13 hf
        refine j_iload dX5_findStarts_155 0 rfl ?_
        refine j_aload_n dX5_findStarts_157 1 rfl ?_
        refine m_geta mf_18 rfl dX5_findStarts_158 ?_
        refine j_iload_n dX5_findStarts_161 4 rfl ?_
        obtain ⟨x3, hx3, hf⟩ := obb hf
        refine m_iald mr_18 hx3 dX5_findStarts_162 ?_
        refine j_icmp_gt (w32 (x1 + v7)) (w32 x3) rfl rfl 220 dX5_findStarts_163 (by decide) (fun h12 => ?_) (fun h12 => ?_)
        · replace hf := itb h12 hf
          refine j_iinc dX5_findStarts_220 8 rfl [(7, pI (v7 + 1)), (8, pI (x1 + v7)), (0, pR (some G.1)), (1, pI v1), (2, pI v2), (3, pI v3), (4, pI v4), (5, pI v5), (6, pI v6)] (Nat.le_of_ble_eq_true rfl) rfl ?_
          refine j_goto 126 dX5_findStarts_223 (by decide) ?_
          exact j_sub [2, 3, 4, 5, 6, 7, 8, 0] _ rfl (ih v4 (v7 + 1) u hf)
        · replace hf := ieb h12 hf
          refine j_aload_n dX5_findStarts_166 1 rfl ?_
          refine m_geta mf_36 rfl dX5_findStarts_167 ?_
          refine j_iload dX5_findStarts_170 7 rfl ?_
          obtain ⟨x4, hx4, hf⟩ := obb hf
          refine m_bald mr_36 hx4 dX5_findStarts_172 ?_
          refine j_iload dX5_findStarts_173 0 rfl ?_
          refine j_aload_n dX5_findStarts_175 1 rfl ?_
          refine m_geta mf_37 rfl dX5_findStarts_176 ?_
          refine j_iload dX5_findStarts_179 7 rfl ?_
          obtain ⟨x5, hx5, hf⟩ := obb hf
          refine m_iald mr_37 hx5 dX5_findStarts_181 ?_
          obtain ⟨x6, hx6, hf⟩ := obb hf
          refine j_cSr [pI x4, pI (x1 + v7), pI x5] [] kT_v (bM_mv G) (c5_holdsSign x4 (x1 + v7) x5 u hx6) wv5_holdsSign dv5_holdsSign rfl ⟨(Nat.le_of_ble_eq_true rfl), (Nat.le_of_ble_eq_true rfl)⟩ rfl (Nat.le_of_ble_eq_true rfl) dX5_findStarts_182 ⟨Nat.le_refl 0, Nat.le_refl 0⟩ ?_
          refine j_aload_n dX5_findStarts_185 1 rfl ?_
          refine m_geta mf_36 rfl dX5_findStarts_186 ?_
          refine j_iload dX5_findStarts_189 7 rfl ?_
          obtain ⟨x7, hx7, hf⟩ := obb hf
          refine m_bald mr_36 hx7 dX5_findStarts_191 ?_
          refine j_iload dX5_findStarts_192 0 rfl ?_
          refine j_iconst dX5_findStarts_194 ?_
          refine j_isub dX5_findStarts_195 ?_
          refine j_aload_n dX5_findStarts_196 1 rfl ?_
          refine m_geta mf_37 rfl dX5_findStarts_197 ?_
          refine j_iload dX5_findStarts_200 7 rfl ?_
          obtain ⟨x8, hx8, hf⟩ := obb hf
          refine m_iald mr_37 hx8 dX5_findStarts_202 ?_
          obtain ⟨x9, hx9, hf⟩ := obb hf
          refine j_cSr [pI x7, pI ((x1 + v7) - 1), pI x8] [pI x6] kT_v (bM_mv G) (c5_holdsSign x7 ((x1 + v7) - 1) x8 u hx9) wv5_holdsSign dv5_holdsSign rfl ⟨(Nat.le_of_ble_eq_true rfl), (Nat.le_of_ble_eq_true rfl)⟩ rfl (Nat.le_of_ble_eq_true rfl) dX5_findStarts_203 ⟨Nat.le_refl 0, Nat.le_refl 0⟩ ?_
          refine j_icmp_eq (w32 x6) (w32 x9) rfl rfl 220 dX5_findStarts_206 (by decide) (fun h11 => ?_) (fun h11 => ?_)
          · replace hf := itb h11 hf
            refine j_iinc dX5_findStarts_220 8 rfl [(7, pI (v7 + 1)), (8, pI (x1 + v7)), (0, pR (some G.1)), (1, pI v1), (2, pI v2), (3, pI v3), (4, pI v4), (5, pI v5), (6, pI v6)] (Nat.le_of_ble_eq_true rfl) rfl ?_
            refine j_goto 126 dX5_findStarts_223 (by decide) ?_
            exact j_sub [2, 3, 4, 5, 6, 7, 8, 0] _ rfl (ih v4 (v7 + 1) u hf)
          · replace hf := ieb h11 hf
            refine j_aload_n dX5_findStarts_209 1 rfl ?_
            refine j_iload_n dX5_findStarts_210 4 rfl ?_
            refine j_iload dX5_findStarts_211 5 rfl ?_
            refine j_iload dX5_findStarts_213 0 rfl ?_
            obtain ⟨q10, hq10, hf⟩ := obb hf
            refine j_cVr [pI v3, pI v4, pI (x1 + v7)] [] kT_v (bM_mv G) (c5_insertStart v3 v4 (x1 + v7) u hq10) wv5_insertStart dv5_insertStart rfl ⟨(Nat.le_of_ble_eq_true rfl), (Nat.le_of_ble_eq_true rfl)⟩ (m_recv u) rfl (Nat.le_of_ble_eq_true rfl) dX5_findStarts_215 ⟨Nat.le_refl 0, Nat.le_refl 0⟩ ?_
            refine j_istore dX5_findStarts_218 [(4, pI q10.1), (8, pI (x1 + v7)), (0, pR (some G.1)), (1, pI v1), (2, pI v2), (3, pI v3), (5, pI v5), (6, pI v6), (7, pI v7)] (Nat.le_of_ble_eq_true rfl) rfl ?_
            refine j_iinc dX5_findStarts_220 8 rfl [(7, pI (v7 + 1)), (4, pI q10.1), (8, pI (x1 + v7)), (0, pR (some G.1)), (1, pI v1), (2, pI v2), (3, pI v3), (5, pI v5), (6, pI v6)] (Nat.le_of_ble_eq_true rfl) rfl ?_
            refine j_goto 126 dX5_findStarts_223 (by decide) ?_
            exact j_sub [3, 4, 5, 6, 1, 7, 8, 0] _ rfl (ih q10.1 (v7 + 1) q10.2 hf)
theorem c5_findStarts_l78 {G : MG} {l : Launch} {a : List PV} {r : Mu} {Kf : Int × Mu → Option (Mu)} (v1 : Int) (v2 : Int) (v3 : Int) (hK0 : ∀ q : Int × Mu, Kf q = some r → J5 G l D5_findStarts a none r q.2 232 [(0, pR (some G.1)), (3, pI v3), (4, pI q.1)] []) : ∀ (n : Nat) (v4 : Int) (v5 : Int) (u : Mu), ((m5_findStarts_l78 v1 v2 v3 n v4 v5 u).bind Kf = some r) → J5 G l D5_findStarts a none r u 78 [(0, pR (some G.1)), (1, pI v1), (2, pI v2), (3, pI v3), (4, pI v4), (5, pI v5)] [] := by
  intro n
  induction n with
  | zero => intro v4 v5 u hf; exact onb hf
  | succ n ih =>
    intro v4 v5 u hf
    unfold m5_findStarts_l78 at hf
    refine j_iload dX5_findStarts_78 5 rfl ?_
    refine j_aload_n dX5_findStarts_80 0 rfl ?_
    refine m_geta mf_33 rfl dX5_findStarts_81 ?_
    refine j_iload_n dX5_findStarts_84 1 rfl ?_
    obtain ⟨x1, hx1, hf⟩ := obb hf
    refine m_iald mr_33 hx1 dX5_findStarts_85 ?_
    refine j_icmp_ge (w32 v5) (w32 x1) rfl rfl 232 dX5_findStarts_86 (by decide) (fun h7 => ?_) (fun h7 => ?_)
    · replace hf := itb h7 hf
      exact j_sub [0, 3, 4] _ rfl (hK0 (v4, u) hf)
    · replace hf := ieb h7 hf
      refine j_sipush dX5_findStarts_89 (by decide) ?_
      refine j_iload_n dX5_findStarts_92 1 rfl ?_
      refine j_imul dX5_findStarts_93 ?_
      refine j_iload dX5_findStarts_94 5 rfl ?_
      refine j_iadd dX5_findStarts_96 ?_
      refine j_istore dX5_findStarts_97 [(6, pI ((2400 * v1) + v5)), (0, pR (some G.1)), (1, pI v1), (2, pI v2), (3, pI v3), (4, pI v4), (5, pI v5)] (Nat.le_of_ble_eq_true rfl) rfl ?_
      refine j_aload_n dX5_findStarts_99 1 rfl ?_
      refine m_geta mf_34 rfl dX5_findStarts_100 ?_
      refine j_iload dX5_findStarts_103 0 rfl ?_
      obtain ⟨x2, hx2, hf⟩ := obb hf
      refine m_bald mr_34 hx2 dX5_findStarts_105 ?_
      refine j_if_ne (w32 x2) rfl 226 dX5_findStarts_106 (by decide) (fun h6 => ?_) (fun h6 => ?_)
      · replace hf := ieb h6 hf
        refine j_iinc dX5_findStarts_226 6 rfl [(5, pI (v5 + 1)), (6, pI ((2400 * v1) + v5)), (0, pR (some G.1)), (1, pI v1), (2, pI v2), (3, pI v3), (4, pI v4)] (Nat.le_of_ble_eq_true rfl) rfl ?_
        refine j_goto 78 dX5_findStarts_229 (by decide) ?_
        exact j_sub [2, 3, 4, 5, 6, 0] _ rfl (ih v4 (v5 + 1) u hf)
      · replace hf := itb h6 hf
        refine j_aload_n dX5_findStarts_109 1 rfl ?_
        refine m_geta mf_35 rfl dX5_findStarts_110 ?_
        refine j_iload dX5_findStarts_113 0 rfl ?_
        obtain ⟨x3, hx3, hf⟩ := obb hf
        refine m_bald mr_35 hx3 dX5_findStarts_115 ?_
        refine j_iload_n dX5_findStarts_116 3 rfl ?_
        refine j_icmp_eq (w32 x3) (w32 v2) rfl rfl 123 dX5_findStarts_117 (by decide) (fun h5 => ?_) (fun h5 => ?_)
        · replace hf := itb h5 hf
          refine j_iconst dX5_findStarts_123 ?_
          refine j_istore dX5_findStarts_124 [(7, pI 0), (6, pI ((2400 * v1) + v5)), (0, pR (some G.1)), (1, pI v1), (2, pI v2), (3, pI v3), (4, pI v4), (5, pI v5)] (Nat.le_of_ble_eq_true rfl) rfl ?_
          replace hf := oba hf
          refine j_sub [2, 3, 4, 5, 6, 7, 1, 0] _ rfl (c5_findStarts_l126 v1 v2 v3 v5 ((2400 * v1) + v5) ?_ NN v4 0 u hf)
          · intro q4 hf
            refine j_iinc dX5_findStarts_226 5 rfl [(5, pI (v5 + 1)), (0, pR (some G.1)), (1, pI v1), (2, pI v2), (3, pI v3), (4, pI q4.1)] (Nat.le_of_ble_eq_true rfl) rfl ?_
            refine j_goto 78 dX5_findStarts_229 (by decide) ?_
            exact j_sub [1, 2, 3, 4, 5, 0] _ rfl (ih q4.1 (v5 + 1) q4.2 hf)
        · replace hf := ieb h5 hf
          refine j_goto 226 dX5_findStarts_120 (by decide) ?_
          refine j_iinc dX5_findStarts_226 6 rfl [(5, pI (v5 + 1)), (6, pI ((2400 * v1) + v5)), (0, pR (some G.1)), (1, pI v1), (2, pI v2), (3, pI v3), (4, pI v4)] (Nat.le_of_ble_eq_true rfl) rfl ?_
          refine j_goto 78 dX5_findStarts_229 (by decide) ?_
          exact j_sub [2, 3, 4, 5, 6, 0] _ rfl (ih v4 (v5 + 1) u hf)
theorem c5_findStarts_l23 {G : MG} {l : Launch} {a : List PV} {r : Mu} {Kf : Int × Mu → Option (Mu)} (v3 : Int) (hK0 : ∀ q : Int × Mu, Kf q = some r → J5 G l D5_findStarts a none r q.2 51 [(0, pR (some G.1)), (3, pI v3), (4, pI q.1)] []) : ∀ (n : Nat) (v4 : Int) (v5 : Int) (u : Mu), ((m5_findStarts_l23 v3 n v4 v5 u).bind Kf = some r) → J5 G l D5_findStarts a none r u 23 [(0, pR (some G.1)), (3, pI v3), (4, pI v4), (5, pI v5)] [] := by
  intro n
  induction n with
  | zero => intro v4 v5 u hf; exact onb hf
  | succ n ih =>
    intro v4 v5 u hf
    unfold m5_findStarts_l23 at hf
    refine j_iload dX5_findStarts_23 3 rfl ?_
    refine j_aload_n dX5_findStarts_25 0 rfl ?_
    refine m_geta mf_18 rfl dX5_findStarts_26 ?_
    refine j_iload_n dX5_findStarts_29 1 rfl ?_
    obtain ⟨x1, hx1, hf⟩ := obb hf
    refine m_iald mr_18 hx1 dX5_findStarts_30 ?_
    refine j_icmp_gt (w32 v5) (w32 x1) rfl rfl 51 dX5_findStarts_31 (by decide) (fun h3 => ?_) (fun h3 => ?_)
    · replace hf := itb h3 hf
      exact j_sub [0, 1, 2] _ rfl (hK0 (v4, u) hf)
    · replace hf := ieb h3 hf
      refine j_aload_n dX5_findStarts_34 0 rfl ?_
      refine j_iload_n dX5_findStarts_35 1 rfl ?_
      refine j_iload dX5_findStarts_36 2 rfl ?_
      refine j_iload dX5_findStarts_38 3 rfl ?_
      obtain ⟨q2, hq2, hf⟩ := obb hf
      refine j_cVr [pI v3, pI v4, pI v5] [] kT_v (bM_mv G) (c5_insertStart v3 v4 v5 u hq2) wv5_insertStart dv5_insertStart rfl ⟨(Nat.le_of_ble_eq_true rfl), (Nat.le_of_ble_eq_true rfl)⟩ (m_recv u) rfl (Nat.le_of_ble_eq_true rfl) dX5_findStarts_40 ⟨Nat.le_refl 0, Nat.le_refl 0⟩ ?_
      refine j_istore dX5_findStarts_43 [(4, pI q2.1), (0, pR (some G.1)), (3, pI v3), (5, pI v5)] (Nat.le_of_ble_eq_true rfl) rfl ?_
      refine j_iinc dX5_findStarts_45 3 rfl [(5, pI (v5 + 1)), (4, pI q2.1), (0, pR (some G.1)), (3, pI v3)] (Nat.le_of_ble_eq_true rfl) rfl ?_
      refine j_goto 23 dX5_findStarts_48 (by decide) ?_
      exact j_sub [2, 3, 1, 0] _ rfl (ih q2.1 (v5 + 1) q2.2 hf)
theorem c5_findStarts {G : MG} {l : Launch} {r : Mu} (v1 : Int) (v2 : Int) (u : Mu) (hf : m5_findStarts v1 v2 u = some r) : JM kT (bM G) (aM G) l yX5_findStarts D5_findStarts [pR (some G.1), pI v1, pI v2] u none r 0 0 := by
  refine j_met (lv0 := [(0, pR (some G.1)), (1, pI v1), (2, pI v2)]) ⟨pl_X5, rfl, rfl, (Nat.le_of_ble_eq_true rfl), rfl⟩ ?_
  unfold m5_findStarts at hf
  refine j_bipush dX5_findStarts_0 (by decide) ?_
  refine j_iload_n dX5_findStarts_2 1 rfl ?_
  refine j_imul dX5_findStarts_3 ?_
  refine j_iload_n dX5_findStarts_4 2 rfl ?_
  refine j_iadd dX5_findStarts_5 ?_
  refine j_istore_n dX5_findStarts_6 [(3, pI ((8 * v1) + v2)), (0, pR (some G.1)), (1, pI v1), (2, pI v2)] (Nat.le_of_ble_eq_true rfl) rfl ?_
  refine j_iconst dX5_findStarts_7 ?_
  refine j_istore dX5_findStarts_8 [(4, pI 0), (3, pI ((8 * v1) + v2)), (0, pR (some G.1)), (1, pI v1), (2, pI v2)] (Nat.le_of_ble_eq_true rfl) rfl ?_
  refine j_aload_n dX5_findStarts_10 2 rfl ?_
  refine m_geta mf_14 rfl dX5_findStarts_11 ?_
  refine j_iload_n dX5_findStarts_14 1 rfl ?_
  obtain ⟨x1, hx1, hf⟩ := ob hf
  refine m_iald mr_14 hx1 dX5_findStarts_15 ?_
  refine j_iconst dX5_findStarts_16 ?_
  refine j_icmp_ge (w32 x1) 2 rfl rfl 60 dX5_findStarts_17 (by decide) (fun h8 => ?_) (fun h8 => ?_)
  · replace hf := it h8 hf
    refine j_aload_n dX5_findStarts_60 2 rfl ?_
    refine j_iload_n dX5_findStarts_61 1 rfl ?_
    refine j_iload dX5_findStarts_62 0 rfl ?_
    refine j_aload_n dX5_findStarts_64 2 rfl ?_
    refine m_geta mf_17 rfl dX5_findStarts_65 ?_
    refine j_iload_n dX5_findStarts_68 1 rfl ?_
    obtain ⟨x2, hx2, hf⟩ := ob hf
    refine m_iald mr_17 hx2 dX5_findStarts_69 ?_
    obtain ⟨q3, hq3, hf⟩ := ob hf
    refine j_cVr [pI ((8 * v1) + v2), pI 0, pI x2] [] kT_v (bM_mv G) (c5_insertStart ((8 * v1) + v2) 0 x2 u hq3) wv5_insertStart dv5_insertStart rfl ⟨(Nat.le_of_ble_eq_true rfl), (Nat.le_of_ble_eq_true rfl)⟩ (m_recv u) rfl (Nat.le_of_ble_eq_true rfl) dX5_findStarts_70 ⟨Nat.le_refl 0, Nat.le_refl 0⟩ ?_
    refine j_istore dX5_findStarts_73 [(4, pI q3.1), (3, pI ((8 * v1) + v2)), (0, pR (some G.1)), (1, pI v1), (2, pI v2)] (Nat.le_of_ble_eq_true rfl) rfl ?_
    refine j_iconst dX5_findStarts_75 ?_
    refine j_istore dX5_findStarts_76 [(5, pI 0), (4, pI q3.1), (3, pI ((8 * v1) + v2)), (0, pR (some G.1)), (1, pI v1), (2, pI v2)] (Nat.le_of_ble_eq_true rfl) rfl ?_
    refine j_sub [3, 4, 5, 2, 1, 0] _ rfl (c5_findStarts_l78 v1 v2 ((8 * v1) + v2) ?_ NN q3.1 0 q3.2 hf)
    · intro q4 hf
      refine j_aload_n dX5_findStarts_232 0 rfl ?_
      refine m_geta mf_39 rfl dX5_findStarts_233 ?_
      refine j_iload_n dX5_findStarts_236 1 rfl ?_
      refine j_iload dX5_findStarts_237 2 rfl ?_
      obtain ⟨u5, hu5, hf⟩ := ob hf
      refine m_iast mr_39 hu5 dX5_findStarts_239 ?_
      replace hf := Option.some.inj hf
      subst hf
      exact j_return (bM_mv G) ⟨Nat.le_refl 0, Nat.le_refl 0⟩ rfl dX5_findStarts_240
  · replace hf := ie h8 hf
    refine j_iconst dX5_findStarts_20 ?_
    refine j_istore dX5_findStarts_21 [(5, pI 0), (4, pI 0), (3, pI ((8 * v1) + v2)), (0, pR (some G.1)), (1, pI v1), (2, pI v2)] (Nat.le_of_ble_eq_true rfl) rfl ?_
    refine j_sub [3, 2, 1, 0] _ rfl (c5_findStarts_l23 ((8 * v1) + v2) ?_ NN 0 0 u hf)
    · intro q6 hf
      refine j_aload_n dX5_findStarts_51 0 rfl ?_
      refine m_geta mf_39 rfl dX5_findStarts_52 ?_
      refine j_iload_n dX5_findStarts_55 1 rfl ?_
      refine j_iload dX5_findStarts_56 2 rfl ?_
      obtain ⟨u7, hu7, hf⟩ := ob hf
      refine m_iast mr_39 hu7 dX5_findStarts_58 ?_
      replace hf := Option.some.inj hf
      subst hf
      exact j_return (bM_mv G) ⟨Nat.le_refl 0, Nat.le_refl 0⟩ rfl dX5_findStarts_59
theorem c5_wrong {G : MG} {l : Launch} {r : Mu} (v1 : Int) (u : Mu) (hf : m5_wrong v1 u = some r) : JM kT (bM G) (aM G) l yX5_wrong D5_wrong [pR (some G.1), pI v1] u none r 0 0 := by
  refine j_met (lv0 := [(0, pR (some G.1)), (1, pI v1)]) ⟨pl_X5, rfl, rfl, (Nat.le_of_ble_eq_true rfl), rfl⟩ ?_
  unfold m5_wrong at hf
  refine j_aload_n dX5_wrong_0 0 rfl ?_
  refine m_geti mf_8 rfl dX5_wrong_1 ?_
  refine j_if_ne (w32 (u.1 8)) rfl 20 dX5_wrong_4 (by decide) (fun h3 => ?_) (fun h3 => ?_)
  · replace hf := ie h3 hf
    replace hf := Option.some.inj hf
    subst hf
    exact j_return (bM_mv G) ⟨Nat.le_refl 0, Nat.le_refl 0⟩ rfl dX5_wrong_20
  · replace hf := it h3 hf
    refine j_aload_n dX5_wrong_7 0 rfl ?_
    refine j_iload_n dX5_wrong_8 1 rfl ?_
    obtain ⟨u1, hu1, hf⟩ := ob hf
    refine m_puti_ hu1 mf_8 mfw_8 rfl dX5_wrong_9 ?_
    refine j_aload_n dX5_wrong_12 0 rfl ?_
    refine j_aload_n dX5_wrong_13 0 rfl ?_
    refine m_geti mf_5 rfl dX5_wrong_14 ?_
    obtain ⟨u2, hu2, hf⟩ := ob hf
    refine m_puti_ hu2 mf_9 mfw_9 rfl dX5_wrong_17 ?_
    replace hf := Option.some.inj hf
    subst hf
    exact j_return (bM_mv G) ⟨Nat.le_refl 0, Nat.le_refl 0⟩ rfl dX5_wrong_20
theorem c5_finish_l5 {G : MG} {l : Launch} {a : List PV} {r : Mu} {Kf : Int × Mu → Option (Mu)} (v1 : Int) (hK0 : ∀ q : Int × Mu, Kf q = some r → J5 G l D5_finish a none r q.2 57 [(0, pR (some G.1)), (1, pI v1), (2, pL q.1)] []) : ∀ (n : Nat) (v2 : Int) (v4 : Int) (u : Mu), ((m5_finish_l5 v1 n v2 v4 u).bind Kf = some r) → J5 G l D5_finish a none r u 5 [(0, pR (some G.1)), (1, pI v1), (2, pL v2), (4, pI v4)] [] := by
  intro n
  induction n with
  | zero => intro v2 v4 u hf; exact onb hf
  | succ n ih =>
    intro v2 v4 u hf
    unfold m5_finish_l5 at hf
    refine j_iload dX5_finish_5 3 rfl ?_
    refine j_aload_n dX5_finish_7 0 rfl ?_
    refine m_geta mf_12 rfl dX5_finish_8 ?_
    refine j_iload_n dX5_finish_11 1 rfl ?_
    obtain ⟨x1, hx1, hf⟩ := obb hf
    refine m_iald mr_12 hx1 dX5_finish_12 ?_
    refine j_icmp_ge (w32 v4) (w32 x1) rfl rfl 57 dX5_finish_13 (by decide) (fun h5 => ?_) (fun h5 => ?_)
    · replace hf := itb h5 hf
      exact j_sub [0, 1, 2] _ rfl (hK0 (v2, u) hf)
    · replace hf := ieb h5 hf
      refine j_aload_n dX5_finish_16 0 rfl ?_
      refine j_iload_n dX5_finish_17 1 rfl ?_
      refine j_iload dX5_finish_18 3 rfl ?_
      obtain ⟨u2, hu2, hf⟩ := obb hf
      refine j_cVv [pI v1, pI v4] [] kT_v (bM_mv G) (c5_findStarts v1 v4 u hu2) wv5_findStarts dv5_findStarts rfl ⟨(Nat.le_of_ble_eq_true rfl), (Nat.le_of_ble_eq_true rfl)⟩ (m_recv u) rfl (Nat.le_of_ble_eq_true rfl) dX5_finish_20 ⟨Nat.le_refl 0, Nat.le_refl 0⟩ ?_
      refine j_lload_n dX5_finish_23 2 rfl ?_
      refine j_ldc2 (z := 1000000) q2365 (by decide) dX5_finish_24 ?_
      refine j_lc_le 35 dX5_finish_27 dX5_finish_28 (by decide) (fun h4 => ?_) (fun h4 => ?_)
      · replace hf := itb h4 hf
        refine j_lload_n dX5_finish_35 2 rfl ?_
        refine j_aload_n dX5_finish_36 0 rfl ?_
        refine m_geta mf_39 rfl dX5_finish_37 ?_
        refine j_bipush dX5_finish_40 (by decide) ?_
        refine j_iload_n dX5_finish_42 1 rfl ?_
        refine j_imul dX5_finish_43 ?_
        refine j_iload dX5_finish_44 3 rfl ?_
        refine j_iadd dX5_finish_46 ?_
        obtain ⟨x3, hx3, hf⟩ := obb hf
        refine m_iald mr_39 hx3 dX5_finish_47 ?_
        refine j_i2l dX5_finish_48 ?_
        refine j_lmul dX5_finish_49 ?_
        refine j_lstore_n dX5_finish_50 [(2, pL (v2 * (w32 x3))), (0, pR (some G.1)), (1, pI v1), (4, pI v4)] (Nat.le_of_ble_eq_true rfl) rfl ?_
        refine j_iinc dX5_finish_51 3 rfl [(4, pI (v4 + 1)), (2, pL (v2 * (w32 x3))), (0, pR (some G.1)), (1, pI v1)] (Nat.le_of_ble_eq_true rfl) rfl ?_
        refine j_goto 5 dX5_finish_54 (by decide) ?_
        exact j_sub [2, 3, 1, 0] _ rfl (ih (v2 * (w32 x3)) (v4 + 1) u2 hf)
      · replace hf := ieb h4 hf
        refine j_lload_n dX5_finish_31 2 rfl ?_
        refine j_goto 50 dX5_finish_32 (by decide) ?_
        refine j_lstore_n dX5_finish_50 [(2, pL v2), (0, pR (some G.1)), (1, pI v1), (4, pI v4)] (Nat.le_of_ble_eq_true rfl) rfl ?_
        refine j_iinc dX5_finish_51 3 rfl [(4, pI (v4 + 1)), (2, pL v2), (0, pR (some G.1)), (1, pI v1)] (Nat.le_of_ble_eq_true rfl) rfl ?_
        refine j_goto 5 dX5_finish_54 (by decide) ?_
        exact j_sub [2, 3, 1, 0] _ rfl (ih v2 (v4 + 1) u2 hf)
theorem c5_finish_l108 {G : MG} {l : Launch} {a : List PV} {r : Mu} {Kf : Mu → Option (Mu)} (v1 : Int) (v4 : Int) (hK0 : ∀ q : Mu, Kf q = some r → J5 G l D5_finish a none r q 169 [(0, pR (some G.1)), (1, pI v1), (4, pI v4)] []) : ∀ (n : Nat) (v5 : Int) (v6 : Int) (u : Mu), ((m5_finish_l108 v1 v4 n v5 v6 u).bind Kf = some r) → J5 G l D5_finish a none r u 108 [(0, pR (some G.1)), (1, pI v1), (4, pI v4), (5, pI v5), (6, pI v6)] [] := by
  intro n
  induction n with
  | zero => intro v5 v6 u hf; exact onb hf
  | succ n ih =>
    intro v5 v6 u hf
    unfold m5_finish_l108 at hf
    refine j_iload dX5_finish_108 4 rfl ?_
    refine j_if_lt (w32 v6) rfl 169 dX5_finish_110 (by decide) (fun h6 => ?_) (fun h6 => ?_)
    · replace hf := itb h6 hf
      exact j_sub [0, 1, 2] _ rfl (hK0 u hf)
    · replace hf := ieb h6 hf
      refine j_aload_n dX5_finish_113 0 rfl ?_
      refine m_geta mf_39 rfl dX5_finish_114 ?_
      refine j_bipush dX5_finish_117 (by decide) ?_
      refine j_iload_n dX5_finish_119 1 rfl ?_
      refine j_imul dX5_finish_120 ?_
      refine j_iload dX5_finish_121 4 rfl ?_
      refine j_iadd dX5_finish_123 ?_
      obtain ⟨x1, hx1, hf⟩ := obb hf
      refine m_iald mr_39 hx1 dX5_finish_124 ?_
      refine j_istore dX5_finish_125 [(7, pI x1), (0, pR (some G.1)), (1, pI v1), (4, pI v4), (5, pI v5), (6, pI v6)] (Nat.le_of_ble_eq_true rfl) rfl ?_
      refine j_aload_n dX5_finish_127 1 rfl ?_
      refine m_geta mf_59 rfl dX5_finish_128 ?_
      refine j_iload dX5_finish_131 5 rfl ?_
      refine j_aload_n dX5_finish_133 1 rfl ?_
      refine m_geta mf_38 rfl dX5_finish_134 ?_
      refine j_sipush dX5_finish_137 (by decide) ?_
      refine j_bipush dX5_finish_140 (by decide) ?_
      refine j_iload_n dX5_finish_142 2 rfl ?_
      refine j_imul dX5_finish_143 ?_
      refine j_iload dX5_finish_144 5 rfl ?_
      refine j_iadd dX5_finish_146 ?_
      refine j_imul dX5_finish_147 ?_
      refine j_iload dX5_finish_148 4 rfl ?_
      refine j_iload dX5_finish_150 0 rfl ?_
      rcases Decidable.em (w32 x1 = 0) with h2 | h2
      · exact onb (itb h2 hf)
      · replace hf := ieb h2 hf
        refine j_irem dX5_finish_152 h2 ?_
        refine j_iadd dX5_finish_153 ?_
        obtain ⟨x3, hx3, hf⟩ := obb hf
        refine m_iald mr_38 hx3 dX5_finish_154 ?_
        obtain ⟨u4, hu4, hf⟩ := obb hf
        refine m_iast mr_59 hu4 dX5_finish_155 ?_
        refine j_iload dX5_finish_156 4 rfl ?_
        refine j_iload dX5_finish_158 0 rfl ?_
        rcases Decidable.em (w32 x1 = 0) with h5 | h5
        · exact onb (itb h5 hf)
        · replace hf := ieb h5 hf
          refine j_idiv dX5_finish_160 h5 ?_
          refine j_istore dX5_finish_161 [(5, pI (div32 v5 x1)), (7, pI x1), (0, pR (some G.1)), (1, pI v1), (4, pI v4), (6, pI v6)] (Nat.le_of_ble_eq_true rfl) rfl ?_
          refine j_iinc dX5_finish_163 5 rfl [(6, pI (v6 + (-1))), (5, pI (div32 v5 x1)), (7, pI x1), (0, pR (some G.1)), (1, pI v1), (4, pI v4)] (Nat.le_of_ble_eq_true rfl) rfl ?_
          refine j_goto 108 dX5_finish_166 (by decide) ?_
          exact j_sub [3, 4, 5, 1, 0] _ rfl (ih (div32 v5 x1) (v6 + (-1)) u4 hf)
theorem c5_finish_l83 {G : MG} {l : Launch} {a : List PV} {r : Mu} {Kf : Mu → Option (Mu)} (v1 : Int) (hK0 : ∀ q : Mu, Kf q = some r → J5 G l D5_finish a none r q 193 [] []) : ∀ (n : Nat) (v4 : Int) (u : Mu), ((m5_finish_l83 v1 n v4 u).bind Kf = some r) → J5 G l D5_finish a none r u 83 [(0, pR (some G.1)), (1, pI v1), (4, pI v4)] [] := by
  intro n
  induction n with
  | zero => intro v4 u hf; exact onb hf
  | succ n ih =>
    intro v4 u hf
    unfold m5_finish_l83 at hf
    refine j_iload dX5_finish_83 2 rfl ?_
    refine j_aload_n dX5_finish_85 0 rfl ?_
    refine m_geta mf_40 rfl dX5_finish_86 ?_
    refine j_iload_n dX5_finish_89 1 rfl ?_
    obtain ⟨x1, hx1, hf⟩ := obb hf
    refine m_iald mr_40 hx1 dX5_finish_90 ?_
    refine j_icmp_ge (w32 v4) (w32 x1) rfl rfl 193 dX5_finish_91 (by decide) (fun h6 => ?_) (fun h6 => ?_)
    · replace hf := itb h6 hf
      exact j_sub [] _ rfl (hK0 u hf)
    · replace hf := ieb h6 hf
      refine j_iload dX5_finish_94 2 rfl ?_
      refine j_istore dX5_finish_96 [(5, pI v4), (0, pR (some G.1)), (1, pI v1), (4, pI v4)] (Nat.le_of_ble_eq_true rfl) rfl ?_
      refine j_aload_n dX5_finish_98 1 rfl ?_
      refine m_geta mf_12 rfl dX5_finish_99 ?_
      refine j_iload_n dX5_finish_102 2 rfl ?_
      obtain ⟨x2, hx2, hf⟩ := obb hf
      refine m_iald mr_12 hx2 dX5_finish_103 ?_
      refine j_iconst dX5_finish_104 ?_
      refine j_isub dX5_finish_105 ?_
      refine j_istore dX5_finish_106 [(6, pI (x2 - 1)), (5, pI v4), (0, pR (some G.1)), (1, pI v1), (4, pI v4)] (Nat.le_of_ble_eq_true rfl) rfl ?_
      replace hf := oba hf
      refine j_sub [2, 3, 4, 1, 0] _ rfl (c5_finish_l108 v1 v4 ?_ NN v4 (x2 - 1) u hf)
      · intro q3 hf
        refine j_aload_n dX5_finish_169 0 rfl ?_
        refine m_geta mf_41 rfl dX5_finish_170 ?_
        refine j_sipush dX5_finish_173 (by decide) ?_
        refine j_iload_n dX5_finish_176 1 rfl ?_
        refine j_imul dX5_finish_177 ?_
        refine j_iload dX5_finish_178 2 rfl ?_
        refine j_iadd dX5_finish_180 ?_
        refine j_aload_n dX5_finish_181 0 rfl ?_
        refine j_iload_n dX5_finish_182 1 rfl ?_
        obtain ⟨q4, hq4, hf⟩ := obb hf
        refine j_cVr [pI v1] [pI ((2000 * v1) + v4), pR (some (G.2.1 41))] kT_v (bM_mv G) (c5_answers v1 q3 hq4) wv5_answers dv5_answers rfl ⟨(Nat.le_of_ble_eq_true rfl), (Nat.le_of_ble_eq_true rfl)⟩ (m_recv q3) rfl (Nat.le_of_ble_eq_true rfl) dX5_finish_183 ⟨Nat.le_refl 0, Nat.le_refl 0⟩ ?_
        obtain ⟨u5, hu5, hf⟩ := obb hf
        refine m_zast mr_41 hu5 dX5_finish_186 ?_
        refine j_iinc dX5_finish_187 2 rfl [(4, pI (v4 + 1)), (0, pR (some G.1)), (1, pI v1)] (Nat.le_of_ble_eq_true rfl) rfl ?_
        refine j_goto 83 dX5_finish_190 (by decide) ?_
        exact j_sub [1, 2, 0] _ rfl (ih (v4 + 1) u5 hf)
theorem c5_finish {G : MG} {l : Launch} {r : Mu} (v1 : Int) (u : Mu) (hf : m5_finish v1 u = some r) : JM kT (bM G) (aM G) l yX5_finish D5_finish [pR (some G.1), pI v1] u none r 0 0 := by
  refine j_met (lv0 := [(0, pR (some G.1)), (1, pI v1)]) ⟨pl_X5, rfl, rfl, (Nat.le_of_ble_eq_true rfl), rfl⟩ ?_
  unfold m5_finish at hf
  refine j_lconst (z := 1) dX5_finish_0 rfl ?_
  refine j_lstore_n dX5_finish_1 [(2, pL 1), (0, pR (some G.1)), (1, pI v1)] (Nat.le_of_ble_eq_true rfl) rfl ?_
  refine j_iconst dX5_finish_2 ?_
  refine j_istore dX5_finish_3 [(4, pI 0), (2, pL 1), (0, pR (some G.1)), (1, pI v1)] (Nat.le_of_ble_eq_true rfl) rfl ?_
  refine j_sub [2, 3, 1, 0] _ rfl (c5_finish_l5 v1 ?_ NN 1 0 u hf)
  · intro q1 hf
    refine j_lload_n dX5_finish_57 2 rfl ?_
    refine j_ldc2 (z := 2000) q2366 (by decide) dX5_finish_58 ?_
    refine j_lc_le 72 dX5_finish_61 dX5_finish_62 (by decide) (fun h5 => ?_) (fun h5 => ?_)
    · replace hf := it h5 hf
      refine j_aload_n dX5_finish_72 0 rfl ?_
      refine m_geta mf_40 rfl dX5_finish_73 ?_
      refine j_iload_n dX5_finish_76 1 rfl ?_
      refine j_lload_n dX5_finish_77 2 rfl ?_
      refine j_l2i dX5_finish_78 ?_
      obtain ⟨u2, hu2, hf⟩ := ob hf
      refine m_iast mr_40 hu2 dX5_finish_79 ?_
      refine j_iconst dX5_finish_80 ?_
      refine j_istore dX5_finish_81 [(4, pI 0), (0, pR (some G.1)), (1, pI v1), (2, pL q1.1)] (Nat.le_of_ble_eq_true rfl) rfl ?_
      refine j_sub [1, 2, 0] _ rfl (c5_finish_l83 v1 ?_ NN 0 u2 hf)
      · intro q3 hf
        replace hf := Option.some.inj hf
        subst hf
        exact j_return (bM_mv G) ⟨Nat.le_refl 0, Nat.le_refl 0⟩ rfl dX5_finish_193
    · replace hf := ie h5 hf
      refine j_aload_n dX5_finish_65 0 rfl ?_
      refine j_bipush dX5_finish_66 (by decide) ?_
      obtain ⟨u4, hu4, hf⟩ := ob hf
      refine j_cVv [pI 7] [] kT_v (bM_mv G) (c5_wrong 7 q1.2 hu4) wv5_wrong dv5_wrong rfl ⟨(Nat.le_of_ble_eq_true rfl), (Nat.le_of_ble_eq_true rfl)⟩ (m_recv q1.2) rfl (Nat.le_of_ble_eq_true rfl) dX5_finish_68 ⟨Nat.le_refl 0, Nat.le_refl 0⟩ ?_
      replace hf := Option.some.inj hf
      subst hf
      exact j_return (bM_mv G) ⟨Nat.le_refl 0, Nat.le_refl 0⟩ rfl dX5_finish_71

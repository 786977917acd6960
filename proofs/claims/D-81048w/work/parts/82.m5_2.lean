theorem c5_cannot_b14 {G : MG} {l : Launch} {a : List PV} {r : Mu} (s1 : Int) (u : Mu) (hf : m5_cannot_b14 s1 u = some r) : J5 G l D5_cannot a none r u 14 [] [pI s1, pR (some G.1)] := by
  unfold m5_cannot_b14 at hf
  obtain ⟨u1, hu1, hf⟩ := ob hf
  refine j_cVv [pI s1] [] kT_v (bM_mv G) (c5_wrong s1 u hu1) wv5_wrong dv5_wrong rfl ⟨(Nat.le_of_ble_eq_true rfl), (Nat.le_of_ble_eq_true rfl)⟩ (m_recv u) rfl (Nat.le_of_ble_eq_true rfl) dX5_cannot_14 ⟨Nat.le_refl 0, Nat.le_refl 0⟩ ?_
  replace hf := Option.some.inj hf
  subst hf
  exact j_return (bM_mv G) ⟨Nat.le_refl 0, Nat.le_refl 0⟩ rfl dX5_cannot_17
theorem c5_cannot {G : MG} {l : Launch} {r : Mu}  (u : Mu) (hf : m5_cannot u = some r) : JM kT (bM G) (aM G) l yX5_cannot D5_cannot [pR (some G.1)] u none r 0 0 := by
  refine j_met (lv0 := [(0, pR (some G.1))]) ⟨pl_X5, rfl, rfl, (Nat.le_of_ble_eq_true rfl), rfl⟩ ?_
  unfold m5_cannot at hf
  refine j_aload_n dX5_cannot_0 0 rfl ?_
  refine j_aload_n dX5_cannot_1 0 rfl ?_
  refine m_geti mf_4 rfl dX5_cannot_2 ?_
  refine j_iconst dX5_cannot_5 ?_
  refine j_icmp_ne (w32 (u.1 4)) 5 rfl rfl 13 dX5_cannot_6 (by decide) (fun h1 => ?_) (fun h1 => ?_)
  · replace hf := ie h1 hf
    refine j_iconst dX5_cannot_13 ?_
    exact j_sub [] _ rfl (c5_cannot_b14 2 u hf)
  · replace hf := it h1 hf
    refine j_iconst dX5_cannot_9 ?_
    refine j_goto 14 dX5_cannot_10 (by decide) ?_
    exact j_sub [] _ rfl (c5_cannot_b14 1 u hf)
theorem c5_isClause {G : MG} {l : Launch} {r : Int}  (u : Mu) (hf : m5_isClause u = some r) : JM kT (bM G) (aM G) l yX5_isClause D5_isClause [pR (some G.1)] u (some (pI r)) u 0 0 := by
  refine j_met (lv0 := [(0, pR (some G.1))]) ⟨pl_X5, rfl, rfl, (Nat.le_of_ble_eq_true rfl), rfl⟩ ?_
  unfold m5_isClause at hf
  refine j_aload_n dX5_isClause_0 0 rfl ?_
  refine m_geti mf_4 rfl dX5_isClause_1 ?_
  refine j_iconst dX5_isClause_4 ?_
  refine j_icmp_ne (w32 (u.1 4)) 4 rfl rfl 30 dX5_isClause_5 (by decide) (fun h3 => ?_) (fun h3 => ?_)
  · replace hf := ie h3 hf
    refine j_iconst dX5_isClause_30 ?_
    replace hf := Option.some.inj hf
    subst hf
    exact j_zreturn (x := 0) (bM_mv G) ⟨Nat.le_refl 0, Nat.le_refl 0⟩ (ty := .boolean) rfl (nar_z (Or.inl rfl)) dX5_isClause_31
  · replace hf := it h3 hf
    refine j_aload_n dX5_isClause_8 0 rfl ?_
    refine m_geti mf_7 rfl dX5_isClause_9 ?_
    refine j_bipush dX5_isClause_12 (by decide) ?_
    refine j_icmp_lt (w32 (u.1 7)) 6 rfl rfl 30 dX5_isClause_14 (by decide) (fun h2 => ?_) (fun h2 => ?_)
    · replace hf := it h2 hf
      refine j_iconst dX5_isClause_30 ?_
      replace hf := Option.some.inj hf
      subst hf
      exact j_zreturn (x := 0) (bM_mv G) ⟨Nat.le_refl 0, Nat.le_refl 0⟩ (ty := .boolean) rfl (nar_z (Or.inl rfl)) dX5_isClause_31
    · replace hf := ie h2 hf
      refine j_aload_n dX5_isClause_17 0 rfl ?_
      refine m_geti mf_7 rfl dX5_isClause_18 ?_
      refine j_bipush dX5_isClause_21 (by decide) ?_
      refine j_icmp_gt (w32 (u.1 7)) 8 rfl rfl 30 dX5_isClause_23 (by decide) (fun h1 => ?_) (fun h1 => ?_)
      · replace hf := it h1 hf
        refine j_iconst dX5_isClause_30 ?_
        replace hf := Option.some.inj hf
        subst hf
        exact j_zreturn (x := 0) (bM_mv G) ⟨Nat.le_refl 0, Nat.le_refl 0⟩ (ty := .boolean) rfl (nar_z (Or.inl rfl)) dX5_isClause_31
      · replace hf := ie h1 hf
        refine j_iconst dX5_isClause_26 ?_
        refine j_goto 31 dX5_isClause_27 (by decide) ?_
        replace hf := Option.some.inj hf
        subst hf
        exact j_zreturn (x := 1) (bM_mv G) ⟨Nat.le_refl 0, Nat.le_refl 0⟩ (ty := .boolean) rfl (nar_z (Or.inr rfl)) dX5_isClause_31
theorem c5_countNode {G : MG} {l : Launch} {r : Mu}  (u : Mu) (hf : m5_countNode u = some r) : JM kT (bM G) (aM G) l yX5_countNode D5_countNode [pR (some G.1)] u none r 0 0 := by
  refine j_met (lv0 := [(0, pR (some G.1))]) ⟨pl_X5, rfl, rfl, (Nat.le_of_ble_eq_true rfl), rfl⟩ ?_
  unfold m5_countNode at hf
  refine j_aload_n dX5_countNode_0 0 rfl ?_
  refine j_dup dX5_countNode_1 rfl ?_
  refine m_geti mf_52 rfl dX5_countNode_2 ?_
  refine j_iconst dX5_countNode_5 ?_
  refine j_iadd dX5_countNode_6 ?_
  obtain ⟨u1, hu1, hf⟩ := ob hf
  refine m_puti_ hu1 mf_52 mfw_52 rfl dX5_countNode_7 ?_
  refine j_aload_n dX5_countNode_10 0 rfl ?_
  refine m_geti mf_52 rfl dX5_countNode_11 ?_
  refine j_aload_n dX5_countNode_14 0 rfl ?_
  refine m_geti mf_47 rfl dX5_countNode_15 ?_
  refine j_icmp_le (w32 (u1.1 52)) (w32 (u1.1 47)) rfl rfl 27 dX5_countNode_18 (by decide) (fun h3 => ?_) (fun h3 => ?_)
  · replace hf := it h3 hf
    replace hf := Option.some.inj hf
    subst hf
    exact j_return (bM_mv G) ⟨Nat.le_refl 0, Nat.le_refl 0⟩ rfl dX5_countNode_27
  · replace hf := ie h3 hf
    refine j_aload_n dX5_countNode_21 0 rfl ?_
    refine j_bipush dX5_countNode_22 (by decide) ?_
    obtain ⟨u2, hu2, hf⟩ := ob hf
    refine j_cVv [pI 6] [] kT_v (bM_mv G) (c5_wrong 6 u1 hu2) wv5_wrong dv5_wrong rfl ⟨(Nat.le_of_ble_eq_true rfl), (Nat.le_of_ble_eq_true rfl)⟩ (m_recv u1) rfl (Nat.le_of_ble_eq_true rfl) dX5_countNode_24 ⟨Nat.le_refl 0, Nat.le_refl 0⟩ ?_
    replace hf := Option.some.inj hf
    subst hf
    exact j_return (bM_mv G) ⟨Nat.le_refl 0, Nat.le_refl 0⟩ rfl dX5_countNode_27
theorem c5_deeper_b15 {G : MG} {l : Launch} {a : List PV} {r : Mu} (v1 : Int) (u : Mu) (hf : m5_deeper_b15 v1 u = some r) : J5 G l D5_deeper a none r u 15 [(0, pR (some G.1)), (1, pI v1)] [] := by
  unfold m5_deeper_b15 at hf
  refine j_aload_n dX5_deeper_15 0 rfl ?_
  refine j_dup dX5_deeper_16 rfl ?_
  refine m_geti mf_50 rfl dX5_deeper_17 ?_
  refine j_iconst dX5_deeper_20 ?_
  refine j_iadd dX5_deeper_21 ?_
  obtain ⟨u1, hu1, hf⟩ := ob hf
  refine m_puti_ hu1 mf_50 mfw_50 rfl dX5_deeper_22 ?_
  refine j_aload_n dX5_deeper_25 0 rfl ?_
  refine m_geta mf_48 rfl dX5_deeper_26 ?_
  refine j_aload_n dX5_deeper_29 0 rfl ?_
  refine m_geti mf_49 rfl dX5_deeper_30 ?_
  refine j_iload_n dX5_deeper_33 1 rfl ?_
  obtain ⟨u2, hu2, hf⟩ := ob hf
  refine m_iast mr_48 hu2 dX5_deeper_34 ?_
  refine j_aload_n dX5_deeper_35 0 rfl ?_
  refine j_dup dX5_deeper_36 rfl ?_
  refine m_geti mf_49 rfl dX5_deeper_37 ?_
  refine j_iconst dX5_deeper_40 ?_
  refine j_iadd dX5_deeper_41 ?_
  obtain ⟨u3, hu3, hf⟩ := ob hf
  refine m_puti_ hu3 mf_49 mfw_49 rfl dX5_deeper_42 ?_
  replace hf := Option.some.inj hf
  subst hf
  exact j_return (bM_mv G) ⟨Nat.le_refl 0, Nat.le_refl 0⟩ rfl dX5_deeper_45
theorem c5_deeper {G : MG} {l : Launch} {r : Mu} (v1 : Int) (u : Mu) (hf : m5_deeper v1 u = some r) : JM kT (bM G) (aM G) l yX5_deeper D5_deeper [pR (some G.1), pI v1] u none r 0 0 := by
  refine j_met (lv0 := [(0, pR (some G.1)), (1, pI v1)]) ⟨pl_X5, rfl, rfl, (Nat.le_of_ble_eq_true rfl), rfl⟩ ?_
  unfold m5_deeper at hf
  refine j_aload_n dX5_deeper_0 0 rfl ?_
  refine m_geti mf_50 rfl dX5_deeper_1 ?_
  refine j_bipush dX5_deeper_4 (by decide) ?_
  refine j_icmp_le (w32 (u.1 50)) 15 rfl rfl 15 dX5_deeper_6 (by decide) (fun h2 => ?_) (fun h2 => ?_)
  · replace hf := it h2 hf
    exact j_sub [0, 1] _ rfl (c5_deeper_b15 v1 u hf)
  · replace hf := ie h2 hf
    refine j_aload_n dX5_deeper_9 0 rfl ?_
    refine j_bipush dX5_deeper_10 (by decide) ?_
    obtain ⟨u1, hu1, hf⟩ := ob hf
    refine j_cVv [pI 6] [] kT_v (bM_mv G) (c5_wrong 6 u hu1) wv5_wrong dv5_wrong rfl ⟨(Nat.le_of_ble_eq_true rfl), (Nat.le_of_ble_eq_true rfl)⟩ (m_recv u) rfl (Nat.le_of_ble_eq_true rfl) dX5_deeper_12 ⟨Nat.le_refl 0, Nat.le_refl 0⟩ ?_
    exact j_sub [0, 1] _ rfl (c5_deeper_b15 v1 u1 hf)
theorem c5_emit {G : MG} {l : Launch} {r : Mu} (v1 : Int) (u : Mu) (hf : m5_emit v1 u = some r) : JM kT (bM G) (aM G) l yX5_emit D5_emit [pR (some G.1), pI v1] u none r 0 0 := by
  refine j_met (lv0 := [(0, pR (some G.1)), (1, pI v1)]) ⟨pl_X5, rfl, rfl, (Nat.le_of_ble_eq_true rfl), rfl⟩ ?_
  unfold m5_emit at hf
  refine j_aload_n dX5_emit_0 0 rfl ?_
  refine m_geta mf_42 rfl dX5_emit_1 ?_
  refine j_aload_n dX5_emit_4 0 rfl ?_
  refine m_geti mf_46 rfl dX5_emit_5 ?_
  refine j_iload_n dX5_emit_8 1 rfl ?_
  refine j_i2b dX5_emit_9 ?_
  obtain ⟨u1, hu1, hf⟩ := ob hf
  refine m_bast mr_42 hu1 dX5_emit_10 ?_
  refine j_aload_n dX5_emit_11 0 rfl ?_
  refine j_dup dX5_emit_12 rfl ?_
  refine m_geti mf_46 rfl dX5_emit_13 ?_
  refine j_iconst dX5_emit_16 ?_
  refine j_iadd dX5_emit_17 ?_
  obtain ⟨u2, hu2, hf⟩ := ob hf
  refine m_puti_ hu2 mf_46 mfw_46 rfl dX5_emit_18 ?_
  replace hf := Option.some.inj hf
  subst hf
  exact j_return (bM_mv G) ⟨Nat.le_refl 0, Nat.le_refl 0⟩ rfl dX5_emit_21
theorem c5_endPart_l0 {G : MG} {l : Launch} {a : List PV} {r : Mu} {Kf : Mu → Option (Mu)} (hK0 : ∀ q : Mu, Kf q = some r → J5 G l D5_endPart a none r q 50 [] []) : ∀ (n : Nat) (u : Mu), ((m5_endPart_l0 n u).bind Kf = some r) → J5 G l D5_endPart a none r u 0 [(0, pR (some G.1))] [] := by
  intro n
  induction n with
  | zero => intro u hf; exact onb hf
  | succ n ih =>
    intro u hf
    unfold m5_endPart_l0 at hf
    refine j_aload_n dX5_endPart_0 0 rfl ?_
    refine m_geti mf_49 rfl dX5_endPart_1 ?_
    refine j_if_le (w32 (u.1 49)) rfl 50 dX5_endPart_4 (by decide) (fun h6 => ?_) (fun h6 => ?_)
    · replace hf := itb h6 hf
      exact j_sub [] _ rfl (hK0 u hf)
    · replace hf := ieb h6 hf
      refine j_aload_n dX5_endPart_7 0 rfl ?_
      refine m_geta mf_48 rfl dX5_endPart_8 ?_
      refine j_aload_n dX5_endPart_11 0 rfl ?_
      refine m_geti mf_49 rfl dX5_endPart_12 ?_
      refine j_iconst dX5_endPart_15 ?_
      refine j_isub dX5_endPart_16 ?_
      obtain ⟨x1, hx1, hf⟩ := obb hf
      refine m_iald mr_48 hx1 dX5_endPart_17 ?_
      refine j_iconst dX5_endPart_18 ?_
      refine j_icmp_ne (w32 x1) 2 rfl rfl 50 dX5_endPart_19 (by decide) (fun h5 => ?_) (fun h5 => ?_)
      · replace hf := ieb h5 hf
        exact j_sub [] _ rfl (hK0 u hf)
      · replace hf := itb h5 hf
        refine j_aload_n dX5_endPart_22 0 rfl ?_
        refine j_iconst dX5_endPart_23 ?_
        obtain ⟨u2, hu2, hf⟩ := obb hf
        refine j_cVv [pI 2] [] kT_v (bM_mv G) (c5_emit 2 u hu2) wv5_emit dv5_emit rfl ⟨(Nat.le_of_ble_eq_true rfl), (Nat.le_of_ble_eq_true rfl)⟩ (m_recv u) rfl (Nat.le_of_ble_eq_true rfl) dX5_endPart_24 ⟨Nat.le_refl 0, Nat.le_refl 0⟩ ?_
        refine j_aload_n dX5_endPart_27 0 rfl ?_
        refine j_dup dX5_endPart_28 rfl ?_
        refine m_geti mf_49 rfl dX5_endPart_29 ?_
        refine j_iconst dX5_endPart_32 ?_
        refine j_isub dX5_endPart_33 ?_
        obtain ⟨u3, hu3, hf⟩ := obb hf
        refine m_puti_ hu3 mf_49 mfw_49 rfl dX5_endPart_34 ?_
        refine j_aload_n dX5_endPart_37 0 rfl ?_
        refine j_dup dX5_endPart_38 rfl ?_
        refine m_geti mf_50 rfl dX5_endPart_39 ?_
        refine j_iconst dX5_endPart_42 ?_
        refine j_isub dX5_endPart_43 ?_
        obtain ⟨u4, hu4, hf⟩ := obb hf
        refine m_puti_ hu4 mf_50 mfw_50 rfl dX5_endPart_44 ?_
        refine j_goto 0 dX5_endPart_47 (by decide) ?_
        exact j_sub [0] _ rfl (ih u4 hf)
theorem c5_endPart {G : MG} {l : Launch} {r : Mu}  (u : Mu) (hf : m5_endPart u = some r) : JM kT (bM G) (aM G) l yX5_endPart D5_endPart [pR (some G.1)] u none r 0 0 := by
  refine j_met (lv0 := [(0, pR (some G.1))]) ⟨pl_X5, rfl, rfl, (Nat.le_of_ble_eq_true rfl), rfl⟩ ?_
  unfold m5_endPart at hf
  refine j_sub [0] _ rfl (c5_endPart_l0 ?_ NN u hf)
  · intro q1 hf
    replace hf := Option.some.inj hf
    subst hf
    exact j_return (bM_mv G) ⟨Nat.le_refl 0, Nat.le_refl 0⟩ rfl dX5_endPart_50
theorem c5_isSign {G : MG} {l : Launch} {r : Int} (v1 : Int) (u : Mu) (hf : m5_isSign v1 u = some r) : JM kT (bM G) (aM G) l yX5_isSign D5_isSign [pR (some G.1), pI v1] u (some (pI r)) u 0 0 := by
  refine j_met (lv0 := [(0, pR (some G.1)), (1, pI v1)]) ⟨pl_X5, rfl, rfl, (Nat.le_of_ble_eq_true rfl), rfl⟩ ?_
  unfold m5_isSign at hf
  refine j_aload_n dX5_isSign_0 0 rfl ?_
  refine m_geti mf_4 rfl dX5_isSign_1 ?_
  refine j_iconst dX5_isSign_4 ?_
  refine j_icmp_ne (w32 (u.1 4)) 3 rfl rfl 20 dX5_isSign_5 (by decide) (fun h2 => ?_) (fun h2 => ?_)
  · replace hf := ie h2 hf
    refine j_iconst dX5_isSign_20 ?_
    replace hf := Option.some.inj hf
    subst hf
    exact j_zreturn (x := 0) (bM_mv G) ⟨Nat.le_refl 0, Nat.le_refl 0⟩ (ty := .boolean) rfl (nar_z (Or.inl rfl)) dX5_isSign_21
  · replace hf := it h2 hf
    refine j_aload_n dX5_isSign_8 0 rfl ?_
    refine m_geti mf_7 rfl dX5_isSign_9 ?_
    refine j_iload_n dX5_isSign_12 1 rfl ?_
    refine j_icmp_ne (w32 (u.1 7)) (w32 v1) rfl rfl 20 dX5_isSign_13 (by decide) (fun h1 => ?_) (fun h1 => ?_)
    · replace hf := ie h1 hf
      refine j_iconst dX5_isSign_20 ?_
      replace hf := Option.some.inj hf
      subst hf
      exact j_zreturn (x := 0) (bM_mv G) ⟨Nat.le_refl 0, Nat.le_refl 0⟩ (ty := .boolean) rfl (nar_z (Or.inl rfl)) dX5_isSign_21
    · replace hf := it h1 hf
      refine j_iconst dX5_isSign_16 ?_
      refine j_goto 21 dX5_isSign_17 (by decide) ?_
      replace hf := Option.some.inj hf
      subst hf
      exact j_zreturn (x := 1) (bM_mv G) ⟨Nat.le_refl 0, Nat.le_refl 0⟩ (ty := .boolean) rfl (nar_z (Or.inr rfl)) dX5_isSign_21
theorem c5_isWord {G : MG} {l : Launch} {r : Int} (v1 : Int) (u : Mu) (hf : m5_isWord v1 u = some r) : JM kT (bM G) (aM G) l yX5_isWord D5_isWord [pR (some G.1), pI v1] u (some (pI r)) u 0 0 := by
  refine j_met (lv0 := [(0, pR (some G.1)), (1, pI v1)]) ⟨pl_X5, rfl, rfl, (Nat.le_of_ble_eq_true rfl), rfl⟩ ?_
  unfold m5_isWord at hf
  refine j_aload_n dX5_isWord_0 0 rfl ?_
  refine m_geti mf_4 rfl dX5_isWord_1 ?_
  refine j_iconst dX5_isWord_4 ?_
  refine j_icmp_ne (w32 (u.1 4)) 4 rfl rfl 20 dX5_isWord_5 (by decide) (fun h2 => ?_) (fun h2 => ?_)
  · replace hf := ie h2 hf
    refine j_iconst dX5_isWord_20 ?_
    replace hf := Option.some.inj hf
    subst hf
    exact j_zreturn (x := 0) (bM_mv G) ⟨Nat.le_refl 0, Nat.le_refl 0⟩ (ty := .boolean) rfl (nar_z (Or.inl rfl)) dX5_isWord_21
  · replace hf := it h2 hf
    refine j_aload_n dX5_isWord_8 0 rfl ?_
    refine m_geti mf_7 rfl dX5_isWord_9 ?_
    refine j_iload_n dX5_isWord_12 1 rfl ?_
    refine j_icmp_ne (w32 (u.1 7)) (w32 v1) rfl rfl 20 dX5_isWord_13 (by decide) (fun h1 => ?_) (fun h1 => ?_)
    · replace hf := ie h1 hf
      refine j_iconst dX5_isWord_20 ?_
      replace hf := Option.some.inj hf
      subst hf
      exact j_zreturn (x := 0) (bM_mv G) ⟨Nat.le_refl 0, Nat.le_refl 0⟩ (ty := .boolean) rfl (nar_z (Or.inl rfl)) dX5_isWord_21
    · replace hf := it h1 hf
      refine j_iconst dX5_isWord_16 ?_
      refine j_goto 21 dX5_isWord_17 (by decide) ?_
      replace hf := Option.some.inj hf
      subst hf
      exact j_zreturn (x := 1) (bM_mv G) ⟨Nat.le_refl 0, Nat.le_refl 0⟩ (ty := .boolean) rfl (nar_z (Or.inr rfl)) dX5_isWord_21
theorem c5_onTop {G : MG} {l : Launch} {r : Int} (v1 : Int) (u : Mu) (hf : m5_onTop v1 u = some r) : JM kT (bM G) (aM G) l yX5_onTop D5_onTop [pR (some G.1), pI v1] u (some (pI r)) u 0 0 := by
  refine j_met (lv0 := [(0, pR (some G.1)), (1, pI v1)]) ⟨pl_X5, rfl, rfl, (Nat.le_of_ble_eq_true rfl), rfl⟩ ?_
  unfold m5_onTop at hf
  refine j_aload_n dX5_onTop_0 0 rfl ?_
  refine m_geti mf_49 rfl dX5_onTop_1 ?_
  refine j_if_le (w32 (u.1 49)) rfl 26 dX5_onTop_4 (by decide) (fun h3 => ?_) (fun h3 => ?_)
  · replace hf := it h3 hf
    refine j_iconst dX5_onTop_26 ?_
    replace hf := Option.some.inj hf
    subst hf
    exact j_zreturn (x := 0) (bM_mv G) ⟨Nat.le_refl 0, Nat.le_refl 0⟩ (ty := .boolean) rfl (nar_z (Or.inl rfl)) dX5_onTop_27
  · replace hf := ie h3 hf
    refine j_aload_n dX5_onTop_7 0 rfl ?_
    refine m_geta mf_48 rfl dX5_onTop_8 ?_
    refine j_aload_n dX5_onTop_11 0 rfl ?_
    refine m_geti mf_49 rfl dX5_onTop_12 ?_
    refine j_iconst dX5_onTop_15 ?_
    refine j_isub dX5_onTop_16 ?_
    obtain ⟨x1, hx1, hf⟩ := ob hf
    refine m_iald mr_48 hx1 dX5_onTop_17 ?_
    refine j_iload_n dX5_onTop_18 1 rfl ?_
    refine j_icmp_ne (w32 x1) (w32 v1) rfl rfl 26 dX5_onTop_19 (by decide) (fun h2 => ?_) (fun h2 => ?_)
    · replace hf := ie h2 hf
      refine j_iconst dX5_onTop_26 ?_
      replace hf := Option.some.inj hf
      subst hf
      exact j_zreturn (x := 0) (bM_mv G) ⟨Nat.le_refl 0, Nat.le_refl 0⟩ (ty := .boolean) rfl (nar_z (Or.inl rfl)) dX5_onTop_27
    · replace hf := it h2 hf
      refine j_iconst dX5_onTop_22 ?_
      refine j_goto 27 dX5_onTop_23 (by decide) ?_
      replace hf := Option.some.inj hf
      subst hf
      exact j_zreturn (x := 1) (bM_mv G) ⟨Nat.le_refl 0, Nat.le_refl 0⟩ (ty := .boolean) rfl (nar_z (Or.inr rfl)) dX5_onTop_27
theorem c5_choiceOf_l3 {G : MG} {l : Launch} {a : List PV} {r : Int} {Kf : (Int) ⊕ (Unit) → Option (Int)} (v1 : Int) (v2 : Int) (u : Mu) (hK0 : ∀ q : Int, Kf (.inl q) = some r → J5 G l D5_choiceOf a (some (pI r)) u u 31 [(4, pI q)] []) (hK1 : ∀ q : Unit, Kf (.inr q) = some r → J5 G l D5_choiceOf a (some (pI r)) u u 40 [] []) : ∀ (n : Nat) (v4 : Int), ((m5_choiceOf_l3 v1 v2 u n v4).bind Kf = some r) → J5 G l D5_choiceOf a (some (pI r)) u u 3 [(0, pR (some G.1)), (1, pI v1), (2, pL v2), (4, pI v4)] [] := by
  intro n
  induction n with
  | zero => intro v4 hf; exact onb hf
  | succ n ih =>
    intro v4 hf
    unfold m5_choiceOf_l3 at hf
    refine j_iload dX5_choiceOf_3 3 rfl ?_
    refine j_aload_n dX5_choiceOf_5 0 rfl ?_
    refine m_geta mf_15 rfl dX5_choiceOf_6 ?_
    refine j_iload_n dX5_choiceOf_9 1 rfl ?_
    obtain ⟨x1, hx1, hf⟩ := obb hf
    refine m_iald mr_15 hx1 dX5_choiceOf_10 ?_
    refine j_icmp_ge (w32 v4) (w32 x1) rfl rfl 40 dX5_choiceOf_11 (by decide) (fun h4 => ?_) (fun h4 => ?_)
    · replace hf := itb h4 hf
      exact j_sub [] _ rfl (hK1 () hf)
    · replace hf := ieb h4 hf
      refine j_aload_n dX5_choiceOf_14 0 rfl ?_
      refine m_geta mf_16 rfl dX5_choiceOf_15 ?_
      refine j_bipush dX5_choiceOf_18 (by decide) ?_
      refine j_iload_n dX5_choiceOf_20 1 rfl ?_
      refine j_imul dX5_choiceOf_21 ?_
      refine j_iload dX5_choiceOf_22 3 rfl ?_
      refine j_iadd dX5_choiceOf_24 ?_
      obtain ⟨x2, hx2, hf⟩ := obb hf
      refine m_lald mr_16 hx2 dX5_choiceOf_25 ?_
      refine j_lload_n dX5_choiceOf_26 2 rfl ?_
      refine j_lc_ne 34 dX5_choiceOf_27 dX5_choiceOf_28 (by decide) (fun h3 => ?_) (fun h3 => ?_)
      · replace hf := ieb h3 hf
        refine j_iinc dX5_choiceOf_34 3 rfl [(4, pI (v4 + 1)), (0, pR (some G.1)), (1, pI v1), (2, pL v2)] (Nat.le_of_ble_eq_true rfl) rfl ?_
        refine j_goto 3 dX5_choiceOf_37 (by decide) ?_
        exact j_sub [1, 2, 3, 0] _ rfl (ih (v4 + 1) hf)
      · replace hf := itb h3 hf
        exact j_sub [3] _ rfl (hK0 v4 hf)
theorem c5_choiceOf {G : MG} {l : Launch} {r : Int} (v1 : Int) (v2 : Int) (u : Mu) (hf : m5_choiceOf v1 v2 u = some r) : JM kT (bM G) (aM G) l yX5_choiceOf D5_choiceOf [pR (some G.1), pI v1, pL v2] u (some (pI r)) u 0 0 := by
  refine j_met (lv0 := [(0, pR (some G.1)), (1, pI v1), (2, pL v2)]) ⟨pl_X5, rfl, rfl, (Nat.le_of_ble_eq_true rfl), rfl⟩ ?_
  unfold m5_choiceOf at hf
  refine j_iconst dX5_choiceOf_0 ?_
  refine j_istore dX5_choiceOf_1 [(4, pI 0), (0, pR (some G.1)), (1, pI v1), (2, pL v2)] (Nat.le_of_ble_eq_true rfl) rfl ?_
  refine j_sub [1, 2, 3, 0] _ rfl (c5_choiceOf_l3 v1 v2 u ?_ ?_ NN 0 hf)
  · intro q1 hf
    simp only [Sum.elim_inl, Sum.elim_inr] at hf
    refine j_iload dX5_choiceOf_31 0 rfl ?_
    replace hf := Option.some.inj hf
    subst hf
    exact j_ireturn (bM_mv G) ⟨Nat.le_refl 0, Nat.le_refl 0⟩ rfl dX5_choiceOf_33
  · intro q2 hf
    simp only [Sum.elim_inl, Sum.elim_inr] at hf
    refine j_iconst dX5_choiceOf_40 ?_
    replace hf := Option.some.inj hf
    subst hf
    exact j_ireturn (bM_mv G) ⟨Nat.le_refl 0, Nat.le_refl 0⟩ rfl dX5_choiceOf_41
theorem c5_factOf_l3 {G : MG} {l : Launch} {a : List PV} {r : Int} {Kf : (Int) ⊕ (Unit) → Option (Int)} (v1 : Int) (v2 : Int) (u : Mu) (hK0 : ∀ q : Int, Kf (.inl q) = some r → J5 G l D5_factOf a (some (pI r)) u u 31 [(4, pI q)] []) (hK1 : ∀ q : Unit, Kf (.inr q) = some r → J5 G l D5_factOf a (some (pI r)) u u 40 [] []) : ∀ (n : Nat) (v4 : Int), ((m5_factOf_l3 v1 v2 u n v4).bind Kf = some r) → J5 G l D5_factOf a (some (pI r)) u u 3 [(0, pR (some G.1)), (1, pI v1), (2, pL v2), (4, pI v4)] [] := by
  intro n
  induction n with
  | zero => intro v4 hf; exact onb hf
  | succ n ih =>
    intro v4 hf
    unfold m5_factOf_l3 at hf
    refine j_iload dX5_factOf_3 3 rfl ?_
    refine j_aload_n dX5_factOf_5 0 rfl ?_
    refine m_geta mf_12 rfl dX5_factOf_6 ?_
    refine j_iload_n dX5_factOf_9 1 rfl ?_
    obtain ⟨x1, hx1, hf⟩ := obb hf
    refine m_iald mr_12 hx1 dX5_factOf_10 ?_
    refine j_icmp_ge (w32 v4) (w32 x1) rfl rfl 40 dX5_factOf_11 (by decide) (fun h4 => ?_) (fun h4 => ?_)
    · replace hf := itb h4 hf
      exact j_sub [] _ rfl (hK1 () hf)
    · replace hf := ieb h4 hf
      refine j_aload_n dX5_factOf_14 0 rfl ?_
      refine m_geta mf_13 rfl dX5_factOf_15 ?_
      refine j_bipush dX5_factOf_18 (by decide) ?_
      refine j_iload_n dX5_factOf_20 1 rfl ?_
      refine j_imul dX5_factOf_21 ?_
      refine j_iload dX5_factOf_22 3 rfl ?_
      refine j_iadd dX5_factOf_24 ?_
      obtain ⟨x2, hx2, hf⟩ := obb hf
      refine m_lald mr_13 hx2 dX5_factOf_25 ?_
      refine j_lload_n dX5_factOf_26 2 rfl ?_
      refine j_lc_ne 34 dX5_factOf_27 dX5_factOf_28 (by decide) (fun h3 => ?_) (fun h3 => ?_)
      · replace hf := ieb h3 hf
        refine j_iinc dX5_factOf_34 3 rfl [(4, pI (v4 + 1)), (0, pR (some G.1)), (1, pI v1), (2, pL v2)] (Nat.le_of_ble_eq_true rfl) rfl ?_
        refine j_goto 3 dX5_factOf_37 (by decide) ?_
        exact j_sub [1, 2, 3, 0] _ rfl (ih (v4 + 1) hf)
      · replace hf := itb h3 hf
        exact j_sub [3] _ rfl (hK0 v4 hf)
theorem c5_factOf {G : MG} {l : Launch} {r : Int} (v1 : Int) (v2 : Int) (u : Mu) (hf : m5_factOf v1 v2 u = some r) : JM kT (bM G) (aM G) l yX5_factOf D5_factOf [pR (some G.1), pI v1, pL v2] u (some (pI r)) u 0 0 := by
  refine j_met (lv0 := [(0, pR (some G.1)), (1, pI v1), (2, pL v2)]) ⟨pl_X5, rfl, rfl, (Nat.le_of_ble_eq_true rfl), rfl⟩ ?_
  unfold m5_factOf at hf
  refine j_iconst dX5_factOf_0 ?_
  refine j_istore dX5_factOf_1 [(4, pI 0), (0, pR (some G.1)), (1, pI v1), (2, pL v2)] (Nat.le_of_ble_eq_true rfl) rfl ?_
  refine j_sub [1, 2, 3, 0] _ rfl (c5_factOf_l3 v1 v2 u ?_ ?_ NN 0 hf)
  · intro q1 hf
    simp only [Sum.elim_inl, Sum.elim_inr] at hf
    refine j_iload dX5_factOf_31 0 rfl ?_
    replace hf := Option.some.inj hf
    subst hf
    exact j_ireturn (bM_mv G) ⟨Nat.le_refl 0, Nat.le_refl 0⟩ rfl dX5_factOf_33
  · intro q2 hf
    simp only [Sum.elim_inl, Sum.elim_inr] at hf
    refine j_iconst dX5_factOf_40 ?_
    replace hf := Option.some.inj hf
    subst hf
    exact j_ireturn (bM_mv G) ⟨Nat.le_refl 0, Nat.le_refl 0⟩ rfl dX5_factOf_41
theorem c5_meanOf_l3 {G : MG} {l : Launch} {a : List PV} {r : Int} {Kf : (Int) ⊕ (Unit) → Option (Int)} (v1 : Int) (v2 : Int) (u : Mu) (hK0 : ∀ q : Int, Kf (.inl q) = some r → J5 G l D5_meanOf a (some (pI r)) u u 31 [(4, pI q)] []) (hK1 : ∀ q : Unit, Kf (.inr q) = some r → J5 G l D5_meanOf a (some (pI r)) u u 40 [] []) : ∀ (n : Nat) (v4 : Int), ((m5_meanOf_l3 v1 v2 u n v4).bind Kf = some r) → J5 G l D5_meanOf a (some (pI r)) u u 3 [(0, pR (some G.1)), (1, pI v1), (2, pL v2), (4, pI v4)] [] := by
  intro n
  induction n with
  | zero => intro v4 hf; exact onb hf
  | succ n ih =>
    intro v4 hf
    unfold m5_meanOf_l3 at hf
    refine j_iload dX5_meanOf_3 3 rfl ?_
    refine j_aload_n dX5_meanOf_5 0 rfl ?_
    refine m_geta mf_19 rfl dX5_meanOf_6 ?_
    refine j_iload_n dX5_meanOf_9 1 rfl ?_
    obtain ⟨x1, hx1, hf⟩ := obb hf
    refine m_iald mr_19 hx1 dX5_meanOf_10 ?_
    refine j_icmp_ge (w32 v4) (w32 x1) rfl rfl 40 dX5_meanOf_11 (by decide) (fun h4 => ?_) (fun h4 => ?_)
    · replace hf := itb h4 hf
      exact j_sub [] _ rfl (hK1 () hf)
    · replace hf := ieb h4 hf
      refine j_aload_n dX5_meanOf_14 0 rfl ?_
      refine m_geta mf_20 rfl dX5_meanOf_15 ?_
      refine j_bipush dX5_meanOf_18 (by decide) ?_
      refine j_iload_n dX5_meanOf_20 1 rfl ?_
      refine j_imul dX5_meanOf_21 ?_
      refine j_iload dX5_meanOf_22 3 rfl ?_
      refine j_iadd dX5_meanOf_24 ?_
      obtain ⟨x2, hx2, hf⟩ := obb hf
      refine m_lald mr_20 hx2 dX5_meanOf_25 ?_
      refine j_lload_n dX5_meanOf_26 2 rfl ?_
      refine j_lc_ne 34 dX5_meanOf_27 dX5_meanOf_28 (by decide) (fun h3 => ?_) (fun h3 => ?_)
      · replace hf := ieb h3 hf
        refine j_iinc dX5_meanOf_34 3 rfl [(4, pI (v4 + 1)), (0, pR (some G.1)), (1, pI v1), (2, pL v2)] (Nat.le_of_ble_eq_true rfl) rfl ?_
        refine j_goto 3 dX5_meanOf_37 (by decide) ?_
        exact j_sub [1, 2, 3, 0] _ rfl (ih (v4 + 1) hf)
      · replace hf := itb h3 hf
        exact j_sub [3] _ rfl (hK0 v4 hf)
theorem c5_meanOf {G : MG} {l : Launch} {r : Int} (v1 : Int) (v2 : Int) (u : Mu) (hf : m5_meanOf v1 v2 u = some r) : JM kT (bM G) (aM G) l yX5_meanOf D5_meanOf [pR (some G.1), pI v1, pL v2] u (some (pI r)) u 0 0 := by
  refine j_met (lv0 := [(0, pR (some G.1)), (1, pI v1), (2, pL v2)]) ⟨pl_X5, rfl, rfl, (Nat.le_of_ble_eq_true rfl), rfl⟩ ?_
  unfold m5_meanOf at hf
  refine j_iconst dX5_meanOf_0 ?_
  refine j_istore dX5_meanOf_1 [(4, pI 0), (0, pR (some G.1)), (1, pI v1), (2, pL v2)] (Nat.le_of_ble_eq_true rfl) rfl ?_
  refine j_sub [1, 2, 3, 0] _ rfl (c5_meanOf_l3 v1 v2 u ?_ ?_ NN 0 hf)
  · intro q1 hf
    simp only [Sum.elim_inl, Sum.elim_inr] at hf
    refine j_iload dX5_meanOf_31 0 rfl ?_
    replace hf := Option.some.inj hf
    subst hf
    exact j_ireturn (bM_mv G) ⟨Nat.le_refl 0, Nat.le_refl 0⟩ rfl dX5_meanOf_33
  · intro q2 hf
    simp only [Sum.elim_inl, Sum.elim_inr] at hf
    refine j_iconst dX5_meanOf_40 ?_
    replace hf := Option.some.inj hf
    subst hf
    exact j_ireturn (bM_mv G) ⟨Nat.le_refl 0, Nat.le_refl 0⟩ rfl dX5_meanOf_41
theorem c5_part_b195 {G : MG} {l : Launch} {a : List PV} {r : Mu} (u : Mu) (hf : m5_part_b195 u = some r) : J5 G l D5_part a none r u 195 [(0, pR (some G.1))] [] := by
  unfold m5_part_b195 at hf
  refine j_aload_n dX5_part_195 0 rfl ?_
  obtain ⟨u1, hu1, hf⟩ := ob hf
  refine j_cVv [] [] kT_v (bM_mv G) (c5_cannot  u hu1) wv5_cannot dv5_cannot rfl ⟨(Nat.le_of_ble_eq_true rfl), (Nat.le_of_ble_eq_true rfl)⟩ (m_recv u) rfl (Nat.le_of_ble_eq_true rfl) dX5_part_196 ⟨Nat.le_refl 0, Nat.le_refl 0⟩ ?_
  replace hf := Option.some.inj hf
  subst hf
  exact j_return (bM_mv G) ⟨Nat.le_refl 0, Nat.le_refl 0⟩ rfl dX5_part_199
theorem c5_part_b280 {G : MG} {l : Launch} {a : List PV} {r : Mu} (s0 : Int) (u : Mu) (hf : m5_part_b280 s0 u = some r) : J5 G l D5_part a none r u 280 [(0, pR (some G.1))] [pI s0] := by
  unfold m5_part_b280 at hf
  refine j_istore dX5_part_280 [(5, pI s0), (0, pR (some G.1))] (Nat.le_of_ble_eq_true rfl) rfl ?_
  refine j_iload dX5_part_282 0 rfl ?_
  refine j_if_ge (w32 s0) rfl 293 dX5_part_284 (by decide) (fun h5 => ?_) (fun h5 => ?_)
  · replace hf := it h5 hf
    refine j_aload_n dX5_part_293 1 rfl ?_
    refine m_geta mf_45 rfl dX5_part_294 ?_
    refine j_aload_n dX5_part_297 1 rfl ?_
    refine m_geti mf_46 rfl dX5_part_298 ?_
    refine j_iload dX5_part_301 0 rfl ?_
    obtain ⟨u1, hu1, hf⟩ := ob hf
    refine m_iast mr_45 hu1 dX5_part_303 ?_
    refine j_aload_n dX5_part_304 1 rfl ?_
    refine j_iconst dX5_part_305 ?_
    obtain ⟨u2, hu2, hf⟩ := ob hf
    refine j_cVv [pI 0] [] kT_v (bM_mv G) (c5_emit 0 u1 hu2) wv5_emit dv5_emit rfl ⟨(Nat.le_of_ble_eq_true rfl), (Nat.le_of_ble_eq_true rfl)⟩ (m_recv u1) rfl (Nat.le_of_ble_eq_true rfl) dX5_part_306 ⟨Nat.le_refl 0, Nat.le_refl 0⟩ ?_
    refine j_aload_n dX5_part_309 1 rfl ?_
    obtain ⟨u3, hu3, hf⟩ := ob hf
    refine j_cVv [] [] kT_v (bM_mv G) (c5_next  u2 hu3) wv5_next dv5_next rfl ⟨(Nat.le_of_ble_eq_true rfl), (Nat.le_of_ble_eq_true rfl)⟩ (m_recv u2) rfl (Nat.le_of_ble_eq_true rfl) dX5_part_310 ⟨Nat.le_refl 0, Nat.le_refl 0⟩ ?_
    replace hf := Option.some.inj hf
    subst hf
    exact j_return (bM_mv G) ⟨Nat.le_refl 0, Nat.le_refl 0⟩ rfl dX5_part_313
  · replace hf := ie h5 hf
    refine j_aload_n dX5_part_287 1 rfl ?_
    refine j_iconst dX5_part_288 ?_
    obtain ⟨u4, hu4, hf⟩ := ob hf
    refine j_cVv [pI 4] [] kT_v (bM_mv G) (c5_wrong 4 u hu4) wv5_wrong dv5_wrong rfl ⟨(Nat.le_of_ble_eq_true rfl), (Nat.le_of_ble_eq_true rfl)⟩ (m_recv u) rfl (Nat.le_of_ble_eq_true rfl) dX5_part_289 ⟨Nat.le_refl 0, Nat.le_refl 0⟩ ?_
    replace hf := Option.some.inj hf
    subst hf
    exact j_return (bM_mv G) ⟨Nat.le_refl 0, Nat.le_refl 0⟩ rfl dX5_part_292
theorem c5_part_b243 {G : MG} {l : Launch} {a : List PV} {r : Mu} (v1 : Int) (v3 : Int) (s0 : Int) (s1 : Int) (u : Mu) (hf : m5_part_b243 v1 v3 s0 s1 u = some r) : J5 G l D5_part a none r u 243 [(0, pR (some G.1)), (1, pI v1), (3, pI v3)] [pI s1, pI s0] := by
  unfold m5_part_b243 at hf
  refine j_icmp_eq (w32 s0) (w32 s1) rfl rfl 251 dX5_part_243 (by decide) (fun h4 => ?_) (fun h4 => ?_)
  · replace hf := it h4 hf
    refine j_iload_n dX5_part_251 2 rfl ?_
    refine j_iconst dX5_part_252 ?_
    refine j_icmp_ne (w32 v3) 1 rfl rfl 276 dX5_part_253 (by decide) (fun h2 => ?_) (fun h2 => ?_)
    · replace hf := ie h2 hf
      refine j_aload_n dX5_part_276 0 rfl ?_
      refine m_geti mf_7 rfl dX5_part_277 ?_
      exact j_sub [0] _ rfl (c5_part_b280 (u.1 7) u hf)
    · replace hf := it h2 hf
      refine j_aload_n dX5_part_256 0 rfl ?_
      refine j_bipush dX5_part_257 (by decide) ?_
      refine j_aload_n dX5_part_259 0 rfl ?_
      refine m_geti mf_51 rfl dX5_part_260 ?_
      refine j_imul dX5_part_263 ?_
      refine j_iload_n dX5_part_264 1 rfl ?_
      refine j_iadd dX5_part_265 ?_
      refine j_aload_n dX5_part_266 0 rfl ?_
      refine m_getl mf_6 rfl dX5_part_267 ?_
      obtain ⟨x1, hx1, hf⟩ := ob hf
      refine j_cVr [pI ((8 * (u.1 51)) + v1), pL (u.1 6)] [] kT_v (bM_mv G) (c5_choiceOf ((8 * (u.1 51)) + v1) (u.1 6) u hx1) wv5_choiceOf dv5_choiceOf rfl ⟨(Nat.le_of_ble_eq_true rfl), (Nat.le_of_ble_eq_true rfl)⟩ (m_recv u) rfl (Nat.le_of_ble_eq_true rfl) dX5_part_270 ⟨Nat.le_refl 0, Nat.le_refl 0⟩ ?_
      refine j_goto 280 dX5_part_273 (by decide) ?_
      exact j_sub [0] _ rfl (c5_part_b280 x1 u hf)
  · replace hf := ie h4 hf
    refine j_aload_n dX5_part_246 0 rfl ?_
    obtain ⟨u3, hu3, hf⟩ := ob hf
    refine j_cVv [] [] kT_v (bM_mv G) (c5_cannot  u hu3) wv5_cannot dv5_cannot rfl ⟨(Nat.le_of_ble_eq_true rfl), (Nat.le_of_ble_eq_true rfl)⟩ (m_recv u) rfl (Nat.le_of_ble_eq_true rfl) dX5_part_247 ⟨Nat.le_refl 0, Nat.le_refl 0⟩ ?_
    replace hf := Option.some.inj hf
    subst hf
    exact j_return (bM_mv G) ⟨Nat.le_refl 0, Nat.le_refl 0⟩ rfl dX5_part_250
theorem c5_part_b200 {G : MG} {l : Launch} {a : List PV} {r : Mu} (v1 : Int) (v3 : Int) (u : Mu) (hf : m5_part_b200 v1 v3 u = some r) : J5 G l D5_part a none r u 200 [(0, pR (some G.1)), (1, pI v1), (3, pI v3)] [] := by
  unfold m5_part_b200 at hf
  refine j_aload_n dX5_part_200 0 rfl ?_
  refine m_geta mf_43 rfl dX5_part_201 ?_
  refine j_aload_n dX5_part_204 0 rfl ?_
  refine m_geti mf_46 rfl dX5_part_205 ?_
  refine j_iload_n dX5_part_208 1 rfl ?_
  refine j_i2b dX5_part_209 ?_
  obtain ⟨u1, hu1, hf⟩ := ob hf
  refine m_bast mr_43 hu1 dX5_part_210 ?_
  refine j_aload_n dX5_part_211 0 rfl ?_
  refine m_geta mf_44 rfl dX5_part_212 ?_
  refine j_aload_n dX5_part_215 0 rfl ?_
  refine m_geti mf_46 rfl dX5_part_216 ?_
  refine j_aload_n dX5_part_219 0 rfl ?_
  refine m_geti mf_7 rfl dX5_part_220 ?_
  refine j_i2b dX5_part_223 ?_
  obtain ⟨u2, hu2, hf⟩ := ob hf
  refine m_bast mr_44 hu2 dX5_part_224 ?_
  refine j_aload_n dX5_part_225 0 rfl ?_
  obtain ⟨u3, hu3, hf⟩ := ob hf
  refine j_cVv [] [] kT_v (bM_mv G) (c5_next  u2 hu3) wv5_next dv5_next rfl ⟨(Nat.le_of_ble_eq_true rfl), (Nat.le_of_ble_eq_true rfl)⟩ (m_recv u2) rfl (Nat.le_of_ble_eq_true rfl) dX5_part_226 ⟨Nat.le_refl 0, Nat.le_refl 0⟩ ?_
  refine j_aload_n dX5_part_229 0 rfl ?_
  refine m_geti mf_4 rfl dX5_part_230 ?_
  refine j_iload_n dX5_part_233 2 rfl ?_
  refine j_iconst dX5_part_234 ?_
  refine j_icmp_ne (w32 v3) 1 rfl rfl 242 dX5_part_235 (by decide) (fun h4 => ?_) (fun h4 => ?_)
  · replace hf := ie h4 hf
    refine j_iconst dX5_part_242 ?_
    exact j_sub [0, 1, 2] _ rfl (c5_part_b243 v1 v3 (u3.1 4) 2 u3 hf)
  · replace hf := it h4 hf
    refine j_iconst dX5_part_238 ?_
    refine j_goto 243 dX5_part_239 (by decide) ?_
    exact j_sub [0, 1, 2] _ rfl (c5_part_b243 v1 v3 (u3.1 4) 1 u3 hf)
theorem c5_part_b166 {G : MG} {l : Launch} {a : List PV} {r : Mu} (s1 : Int) (u : Mu) (hf : m5_part_b166 s1 u = some r) : J5 G l D5_part a none r u 166 [] [pI s1, pR (some G.1)] := by
  unfold m5_part_b166 at hf
  obtain ⟨u1, hu1, hf⟩ := ob hf
  refine j_cVv [pI s1] [] kT_v (bM_mv G) (c5_emit s1 u hu1) wv5_emit dv5_emit rfl ⟨(Nat.le_of_ble_eq_true rfl), (Nat.le_of_ble_eq_true rfl)⟩ (m_recv u) rfl (Nat.le_of_ble_eq_true rfl) dX5_part_166 ⟨Nat.le_refl 0, Nat.le_refl 0⟩ ?_
  replace hf := Option.some.inj hf
  subst hf
  exact j_return (bM_mv G) ⟨Nat.le_refl 0, Nat.le_refl 0⟩ rfl dX5_part_169
theorem c5_part_b134 {G : MG} {l : Launch} {a : List PV} {r : Mu} (v1 : Int) (s1 : Int) (s2 : Int) (u : Mu) (hf : m5_part_b134 v1 s1 s2 u = some r) : J5 G l D5_part a none r u 134 [(0, pR (some G.1)), (1, pI v1)] [pI s2, pI s1, pR (some (G.2.1 43))] := by
  unfold m5_part_b134 at hf
  refine j_i2b dX5_part_134 ?_
  obtain ⟨u1, hu1, hf⟩ := ob hf
  refine m_bast mr_43 hu1 dX5_part_135 ?_
  refine j_aload_n dX5_part_136 0 rfl ?_
  refine m_geta mf_44 rfl dX5_part_137 ?_
  refine j_aload_n dX5_part_140 0 rfl ?_
  refine m_geti mf_46 rfl dX5_part_141 ?_
  refine j_iconst dX5_part_144 ?_
  obtain ⟨u2, hu2, hf⟩ := ob hf
  refine m_bast mr_44 hu2 dX5_part_145 ?_
  refine j_aload_n dX5_part_146 0 rfl ?_
  refine m_geta mf_45 rfl dX5_part_147 ?_
  refine j_aload_n dX5_part_150 0 rfl ?_
  refine m_geti mf_46 rfl dX5_part_151 ?_
  refine j_iconst dX5_part_154 ?_
  obtain ⟨u3, hu3, hf⟩ := ob hf
  refine m_iast mr_45 hu3 dX5_part_155 ?_
  refine j_aload_n dX5_part_156 0 rfl ?_
  refine j_iload_n dX5_part_157 1 rfl ?_
  refine j_if_ge (w32 v1) rfl 165 dX5_part_158 (by decide) (fun h4 => ?_) (fun h4 => ?_)
  · replace hf := it h4 hf
    refine j_iconst dX5_part_165 ?_
    exact j_sub [] _ rfl (c5_part_b166 0 u3 hf)
  · replace hf := ie h4 hf
    refine j_iconst dX5_part_161 ?_
    refine j_goto 166 dX5_part_162 (by decide) ?_
    exact j_sub [] _ rfl (c5_part_b166 1 u3 hf)
theorem c5_part_b100 {G : MG} {l : Launch} {a : List PV} {r : Mu} (v1 : Int) (v2 : Int) (v3 : Int) (s0 : Int) (u : Mu) (hf : m5_part_b100 v1 v2 v3 s0 u = some r) : J5 G l D5_part a none r u 100 [(0, pR (some G.1)), (1, pI v1), (2, pI v2), (3, pI v3)] [pI s0] := by
  unfold m5_part_b100 at hf
  refine j_istore dX5_part_100 [(4, pI s0), (0, pR (some G.1)), (1, pI v1), (2, pI v2), (3, pI v3)] (Nat.le_of_ble_eq_true rfl) rfl ?_
  refine j_iload_n dX5_part_102 4 rfl ?_
  refine j_if_ne (w32 v3) rfl 170 dX5_part_103 (by decide) (fun h8 => ?_) (fun h8 => ?_)
  · replace hf := ie h8 hf
    refine j_iload dX5_part_170 0 rfl ?_
    refine j_if_eq (w32 s0) rfl 195 dX5_part_172 (by decide) (fun h4 => ?_) (fun h4 => ?_)
    · replace hf := it h4 hf
      exact j_sub [1] _ rfl (c5_part_b195 u hf)
    · replace hf := ie h4 hf
      refine j_iload_n dX5_part_175 4 rfl ?_
      refine j_iconst dX5_part_176 ?_
      refine j_icmp_ne (w32 v3) 1 rfl rfl 200 dX5_part_177 (by decide) (fun h3 => ?_) (fun h3 => ?_)
      · replace hf := ie h3 hf
        exact j_sub [1, 2, 4] _ rfl (c5_part_b200 v1 v3 u hf)
      · replace hf := it h3 hf
        refine j_aload_n dX5_part_180 1 rfl ?_
        refine m_geti mf_7 rfl dX5_part_181 ?_
        refine j_if_eq (w32 (u.1 7)) rfl 200 dX5_part_184 (by decide) (fun h2 => ?_) (fun h2 => ?_)
        · replace hf := it h2 hf
          exact j_sub [1, 2, 4] _ rfl (c5_part_b200 v1 v3 u hf)
        · replace hf := ie h2 hf
          refine j_aload_n dX5_part_187 1 rfl ?_
          refine m_geti mf_7 rfl dX5_part_188 ?_
          refine j_iconst dX5_part_191 ?_
          refine j_icmp_eq (w32 (u.1 7)) 5 rfl rfl 200 dX5_part_192 (by decide) (fun h1 => ?_) (fun h1 => ?_)
          · replace hf := it h1 hf
            exact j_sub [1, 2, 4] _ rfl (c5_part_b200 v1 v3 u hf)
          · replace hf := ie h1 hf
            exact j_sub [1] _ rfl (c5_part_b195 u hf)
  · replace hf := it h8 hf
    refine j_iload dX5_part_106 0 rfl ?_
    refine j_if_eq (w32 s0) rfl 117 dX5_part_108 (by decide) (fun h7 => ?_) (fun h7 => ?_)
    · replace hf := it h7 hf
      refine j_aload_n dX5_part_117 1 rfl ?_
      refine m_geta mf_43 rfl dX5_part_118 ?_
      refine j_aload_n dX5_part_121 1 rfl ?_
      refine m_geti mf_46 rfl dX5_part_122 ?_
      refine j_iload_n dX5_part_125 2 rfl ?_
      refine j_if_ge (w32 v1) rfl 133 dX5_part_126 (by decide) (fun h5 => ?_) (fun h5 => ?_)
      · replace hf := it h5 hf
        refine j_iload_n dX5_part_133 2 rfl ?_
        exact j_sub [1, 2] _ rfl (c5_part_b134 v1 (u.1 46) v1 u hf)
      · replace hf := ie h5 hf
        refine j_iload_n dX5_part_129 3 rfl ?_
        refine j_goto 134 dX5_part_130 (by decide) ?_
        exact j_sub [1, 2] _ rfl (c5_part_b134 v1 (u.1 46) v2 u hf)
    · replace hf := ie h7 hf
      refine j_aload_n dX5_part_111 1 rfl ?_
      refine j_iconst dX5_part_112 ?_
      obtain ⟨u6, hu6, hf⟩ := ob hf
      refine j_cVv [pI 2] [] kT_v (bM_mv G) (c5_wrong 2 u hu6) wv5_wrong dv5_wrong rfl ⟨(Nat.le_of_ble_eq_true rfl), (Nat.le_of_ble_eq_true rfl)⟩ (m_recv u) rfl (Nat.le_of_ble_eq_true rfl) dX5_part_113 ⟨Nat.le_refl 0, Nat.le_refl 0⟩ ?_
      replace hf := Option.some.inj hf
      subst hf
      exact j_return (bM_mv G) ⟨Nat.le_refl 0, Nat.le_refl 0⟩ rfl dX5_part_116
theorem c5_part_b99 {G : MG} {l : Launch} {a : List PV} {r : Mu} (v1 : Int) (v2 : Int) (v3 : Int) (u : Mu) (hf : m5_part_b99 v1 v2 v3 u = some r) : J5 G l D5_part a none r u 99 [(0, pR (some G.1)), (1, pI v1), (2, pI v2), (3, pI v3)] [] := by
  unfold m5_part_b99 at hf
  refine j_iconst dX5_part_99 ?_
  exact j_sub [0, 1, 2, 3] _ rfl (c5_part_b100 v1 v2 v3 0 u hf)
theorem c5_part_b74 {G : MG} {l : Launch} {a : List PV} {r : Mu} (v1 : Int) (v2 : Int) (s0 : Int) (u : Mu) (hf : m5_part_b74 v1 v2 s0 u = some r) : J5 G l D5_part a none r u 74 [(0, pR (some G.1)), (1, pI v1), (2, pI v2)] [pI s0] := by
  unfold m5_part_b74 at hf
  refine j_istore_n dX5_part_74 [(3, pI s0), (0, pR (some G.1)), (1, pI v1), (2, pI v2)] (Nat.le_of_ble_eq_true rfl) rfl ?_
  refine j_aload_n dX5_part_75 1 rfl ?_
  obtain ⟨u1, hu1, hf⟩ := ob hf
  refine j_cVv [] [] kT_v (bM_mv G) (c5_next  u hu1) wv5_next dv5_next rfl ⟨(Nat.le_of_ble_eq_true rfl), (Nat.le_of_ble_eq_true rfl)⟩ (m_recv u) rfl (Nat.le_of_ble_eq_true rfl) dX5_part_76 ⟨Nat.le_refl 0, Nat.le_refl 0⟩ ?_
  refine j_aload_n dX5_part_79 1 rfl ?_
  refine m_geti mf_4 rfl dX5_part_80 ?_
  refine j_iconst dX5_part_83 ?_
  refine j_icmp_ne (w32 (u1.1 4)) 3 rfl rfl 99 dX5_part_84 (by decide) (fun h3 => ?_) (fun h3 => ?_)
  · replace hf := ie h3 hf
    exact j_sub [1, 2, 3, 0] _ rfl (c5_part_b99 v1 v2 s0 u1 hf)
  · replace hf := it h3 hf
    refine j_aload_n dX5_part_87 1 rfl ?_
    refine m_geti mf_7 rfl dX5_part_88 ?_
    refine j_iconst dX5_part_91 ?_
    refine j_icmp_gt (w32 (u1.1 7)) 5 rfl rfl 99 dX5_part_92 (by decide) (fun h2 => ?_) (fun h2 => ?_)
    · replace hf := it h2 hf
      exact j_sub [1, 2, 3, 0] _ rfl (c5_part_b99 v1 v2 s0 u1 hf)
    · replace hf := ie h2 hf
      refine j_iconst dX5_part_95 ?_
      refine j_goto 100 dX5_part_96 (by decide) ?_
      exact j_sub [1, 2, 3, 0] _ rfl (c5_part_b100 v1 v2 s0 1 u1 hf)
theorem c5_part_b40 {G : MG} {l : Launch} {a : List PV} {r : Mu} (v1 : Int) (v2 : Int) (u : Mu) (hf : m5_part_b40 v1 v2 u = some r) : J5 G l D5_part a none r u 40 [(0, pR (some G.1)), (1, pI v1), (2, pI v2)] [] := by
  unfold m5_part_b40 at hf
  refine j_aload_n dX5_part_40 0 rfl ?_
  obtain ⟨u1, hu1, hf⟩ := ob hf
  refine j_cVv [] [] kT_v (bM_mv G) (c5_countNode  u hu1) wv5_countNode dv5_countNode rfl ⟨(Nat.le_of_ble_eq_true rfl), (Nat.le_of_ble_eq_true rfl)⟩ (m_recv u) rfl (Nat.le_of_ble_eq_true rfl) dX5_part_41 ⟨Nat.le_refl 0, Nat.le_refl 0⟩ ?_
  refine j_aload_n dX5_part_44 0 rfl ?_
  refine m_geti mf_8 rfl dX5_part_45 ?_
  refine j_if_le (w32 (u1.1 8)) rfl 52 dX5_part_48 (by decide) (fun h4 => ?_) (fun h4 => ?_)
  · replace hf := it h4 hf
    refine j_iload_n dX5_part_52 1 rfl ?_
    refine j_if_ge (w32 v1) rfl 60 dX5_part_53 (by decide) (fun h3 => ?_) (fun h3 => ?_)
    · replace hf := it h3 hf
      refine j_aload_n dX5_part_60 0 rfl ?_
      refine m_geta mf_14 rfl dX5_part_61 ?_
      refine j_bipush dX5_part_64 (by decide) ?_
      refine j_aload_n dX5_part_66 0 rfl ?_
      refine m_geti mf_51 rfl dX5_part_67 ?_
      refine j_imul dX5_part_70 ?_
      refine j_iload_n dX5_part_71 1 rfl ?_
      refine j_iadd dX5_part_72 ?_
      obtain ⟨x2, hx2, hf⟩ := ob hf
      refine m_iald mr_14 hx2 dX5_part_73 ?_
      exact j_sub [0, 1, 2] _ rfl (c5_part_b74 v1 v2 x2 u1 hf)
    · replace hf := ie h3 hf
      refine j_iconst dX5_part_56 ?_
      refine j_goto 74 dX5_part_57 (by decide) ?_
      exact j_sub [0, 1, 2] _ rfl (c5_part_b74 v1 v2 0 u1 hf)
  · replace hf := ie h4 hf
    replace hf := Option.some.inj hf
    subst hf
    exact j_return (bM_mv G) ⟨Nat.le_refl 0, Nat.le_refl 0⟩ rfl dX5_part_51
theorem c5_part {G : MG} {l : Launch} {r : Mu}  (u : Mu) (hf : m5_part u = some r) : JM kT (bM G) (aM G) l yX5_part D5_part [pR (some G.1)] u none r 0 0 := by
  refine j_met (lv0 := [(0, pR (some G.1))]) ⟨pl_X5, rfl, rfl, (Nat.le_of_ble_eq_true rfl), rfl⟩ ?_
  unfold m5_part at hf
  refine j_aload_n dX5_part_0 0 rfl ?_
  refine j_aload_n dX5_part_1 0 rfl ?_
  refine m_geti mf_51 rfl dX5_part_2 ?_
  refine j_aload_n dX5_part_5 0 rfl ?_
  refine m_getl mf_6 rfl dX5_part_6 ?_
  obtain ⟨x1, hx1, hf⟩ := ob hf
  refine j_cVr [pI (u.1 51), pL (u.1 6)] [] kT_v (bM_mv G) (c5_factOf (u.1 51) (u.1 6) u hx1) wv5_factOf dv5_factOf rfl ⟨(Nat.le_of_ble_eq_true rfl), (Nat.le_of_ble_eq_true rfl)⟩ (m_recv u) rfl (Nat.le_of_ble_eq_true rfl) dX5_part_9 ⟨Nat.le_refl 0, Nat.le_refl 0⟩ ?_
  refine j_istore_n dX5_part_12 [(1, pI x1), (0, pR (some G.1))] (Nat.le_of_ble_eq_true rfl) rfl ?_
  refine j_aload_n dX5_part_13 1 rfl ?_
  refine j_aload_n dX5_part_14 1 rfl ?_
  refine m_geti mf_51 rfl dX5_part_15 ?_
  refine j_aload_n dX5_part_18 1 rfl ?_
  refine m_getl mf_6 rfl dX5_part_19 ?_
  obtain ⟨x2, hx2, hf⟩ := ob hf
  refine j_cVr [pI (u.1 51), pL (u.1 6)] [] kT_v (bM_mv G) (c5_meanOf (u.1 51) (u.1 6) u hx2) wv5_meanOf dv5_meanOf rfl ⟨(Nat.le_of_ble_eq_true rfl), (Nat.le_of_ble_eq_true rfl)⟩ (m_recv u) rfl (Nat.le_of_ble_eq_true rfl) dX5_part_22 ⟨Nat.le_refl 0, Nat.le_refl 0⟩ ?_
  refine j_istore_n dX5_part_25 [(2, pI x2), (1, pI x1), (0, pR (some G.1))] (Nat.le_of_ble_eq_true rfl) rfl ?_
  refine j_iload_n dX5_part_26 1 rfl ?_
  refine j_if_ge (w32 x1) rfl 40 dX5_part_27 (by decide) (fun h5 => ?_) (fun h5 => ?_)
  · replace hf := it h5 hf
    exact j_sub [2, 1, 0] _ rfl (c5_part_b40 x1 x2 u hf)
  · replace hf := ie h5 hf
    refine j_iload_n dX5_part_30 0 rfl ?_
    refine j_if_ge (w32 x2) rfl 40 dX5_part_31 (by decide) (fun h4 => ?_) (fun h4 => ?_)
    · replace hf := it h4 hf
      exact j_sub [2, 1, 0] _ rfl (c5_part_b40 x1 x2 u hf)
    · replace hf := ie h4 hf
      refine j_aload_n dX5_part_34 2 rfl ?_
      refine j_iconst dX5_part_35 ?_
      obtain ⟨u3, hu3, hf⟩ := ob hf
      refine j_cVv [pI 4] [] kT_v (bM_mv G) (c5_wrong 4 u hu3) wv5_wrong dv5_wrong rfl ⟨(Nat.le_of_ble_eq_true rfl), (Nat.le_of_ble_eq_true rfl)⟩ (m_recv u) rfl (Nat.le_of_ble_eq_true rfl) dX5_part_36 ⟨Nat.le_refl 0, Nat.le_refl 0⟩ ?_
      replace hf := Option.some.inj hf
      subst hf
      exact j_return (bM_mv G) ⟨Nat.le_refl 0, Nat.le_refl 0⟩ rfl dX5_part_39
theorem c5_cond_b154 {G : MG} {l : Launch} {a : List PV} {r : Mu} {Kf : Mu → Option (Mu)} {v2 : Int} (kh : Mu → Option (Mu)) (hkh : ∀ (zu : Mu), ((kh  zu).bind Kf = some r) → J5 G l D5_cond a none r zu 134 [(0, pR (some G.1)), (2, pI v2)] []) (hK0 : ∀ q : Mu, Kf q = some r → J5 G l D5_cond a none r q 182 [(0, pR (some G.1)), (2, pI v2)] []) (u : Mu) (hf : (m5_cond_b154 kh v2 u).bind Kf = some r) : J5 G l D5_cond a none r u 154 [(0, pR (some G.1)), (2, pI v2)] [] := by
  unfold m5_cond_b154 at hf
  refine j_aload_n dX5_cond_154 0 rfl ?_
  refine j_aload_n dX5_cond_155 0 rfl ?_
  refine m_geta mf_48 rfl dX5_cond_156 ?_
  refine j_aload_n dX5_cond_159 0 rfl ?_
  refine m_geti mf_49 rfl dX5_cond_160 ?_
  refine j_iconst dX5_cond_163 ?_
  refine j_isub dX5_cond_164 ?_
  obtain ⟨x1, hx1, hf⟩ := obb hf
  refine m_iald mr_48 hx1 dX5_cond_165 ?_
  obtain ⟨u2, hu2, hf⟩ := obb hf
  refine j_cVv [pI x1] [] kT_v (bM_mv G) (c5_emit x1 u hu2) wv5_emit dv5_emit rfl ⟨(Nat.le_of_ble_eq_true rfl), (Nat.le_of_ble_eq_true rfl)⟩ (m_recv u) rfl (Nat.le_of_ble_eq_true rfl) dX5_cond_166 ⟨Nat.le_refl 0, Nat.le_refl 0⟩ ?_
  refine j_aload_n dX5_cond_169 0 rfl ?_
  refine j_dup dX5_cond_170 rfl ?_
  refine m_geti mf_49 rfl dX5_cond_171 ?_
  refine j_iconst dX5_cond_174 ?_
  refine j_isub dX5_cond_175 ?_
  obtain ⟨u3, hu3, hf⟩ := obb hf
  refine m_puti_ hu3 mf_49 mfw_49 rfl dX5_cond_176 ?_
  refine j_goto 134 dX5_cond_179 (by decide) ?_
  exact j_sub [0, 1] _ rfl (hkh u3 hf)
theorem c5_cond_l134 {G : MG} {l : Launch} {a : List PV} {r : Mu} {Kf : Mu → Option (Mu)} (v2 : Int) (hK0 : ∀ q : Mu, Kf q = some r → J5 G l D5_cond a none r q 182 [(0, pR (some G.1)), (2, pI v2)] []) : ∀ (n : Nat) (u : Mu), ((m5_cond_l134 v2 n u).bind Kf = some r) → J5 G l D5_cond a none r u 134 [(0, pR (some G.1)), (2, pI v2)] [] := by
  intro n
  induction n with
  | zero => intro u hf; exact onb hf
  | succ n ih =>
    intro u hf
    unfold m5_cond_l134 at hf
    refine j_aload_n dX5_cond_134 0 rfl ?_
    refine j_iconst dX5_cond_135 ?_
    obtain ⟨x1, hx1, hf⟩ := obb hf
    refine j_cVr [pI 3] [] kT_v (bM_mv G) (c5_onTop 3 u hx1) wv5_onTop dv5_onTop rfl ⟨(Nat.le_of_ble_eq_true rfl), (Nat.le_of_ble_eq_true rfl)⟩ (m_recv u) rfl (Nat.le_of_ble_eq_true rfl) dX5_cond_136 ⟨Nat.le_refl 0, Nat.le_refl 0⟩ ?_
    refine j_if_ne (w32 x1) rfl 154 dX5_cond_139 (by decide) (fun h5 => ?_) (fun h5 => ?_)
    · replace hf := ieb h5 hf
      exact j_sub [0, 1] _ rfl (c5_cond_b154 (m5_cond_l134 v2 n) ih hK0 u hf)
    · replace hf := itb h5 hf
      refine j_iload_n dX5_cond_142 1 rfl ?_
      refine j_if_ne (w32 v2) rfl 182 dX5_cond_143 (by decide) (fun h4 => ?_) (fun h4 => ?_)
      · replace hf := ieb h4 hf
        exact j_sub [0, 1] _ rfl (hK0 u hf)
      · replace hf := itb h4 hf
        refine j_aload_n dX5_cond_146 0 rfl ?_
        refine j_iconst dX5_cond_147 ?_
        obtain ⟨x2, hx2, hf⟩ := obb hf
        refine j_cVr [pI 4] [] kT_v (bM_mv G) (c5_onTop 4 u hx2) wv5_onTop dv5_onTop rfl ⟨(Nat.le_of_ble_eq_true rfl), (Nat.le_of_ble_eq_true rfl)⟩ (m_recv u) rfl (Nat.le_of_ble_eq_true rfl) dX5_cond_148 ⟨Nat.le_refl 0, Nat.le_refl 0⟩ ?_
        refine j_if_eq (w32 x2) rfl 182 dX5_cond_151 (by decide) (fun h3 => ?_) (fun h3 => ?_)
        · replace hf := itb h3 hf
          exact j_sub [0, 1] _ rfl (hK0 u hf)
        · replace hf := ieb h3 hf
          exact j_sub [0, 1] _ rfl (c5_cond_b154 (m5_cond_l134 v2 n) ih hK0 u hf)
theorem c5_cond_b199 {G : MG} {l : Launch} {a : List PV} {r : Mu} {Kf : (Mu) ⊕ (Mu) ⊕ (Mu) → Option (Mu)} (kh : Int → Mu → Option ((Mu) ⊕ (Mu) ⊕ (Mu))) (hkh : ∀ (z1 : Int) (zu : Mu), ((kh z1 zu).bind Kf = some r) → J5 G l D5_cond a none r zu 12 [(0, pR (some G.1)), (1, pI z1)] []) (hK0 : ∀ q : Mu, Kf (.inl q) = some r → J5 G l D5_cond a none r q 270 [] []) (hK1 : ∀ q : Mu, Kf (.inr (.inl q)) = some r → J5 G l D5_cond a none r q 280 [(0, pR (some G.1))] []) (hK2 : ∀ q : Mu, Kf (.inr (.inr q)) = some r → J5 G l D5_cond a none r q 316 [] []) (s1 : Int) (s2 : Int) (u : Mu) (hf : (m5_cond_b199 kh s1 s2 u).bind Kf = some r) : J5 G l D5_cond a none r u 199 [(0, pR (some G.1))] [pI s2, pI s1, pR (some (G.2.1 48))] := by
  unfold m5_cond_b199 at hf
  obtain ⟨u1, hu1, hf⟩ := obb hf
  refine m_iast mr_48 hu1 dX5_cond_199 ?_
  refine j_aload_n dX5_cond_200 0 rfl ?_
  refine j_dup dX5_cond_201 rfl ?_
  refine m_geti mf_49 rfl dX5_cond_202 ?_
  refine j_iconst dX5_cond_205 ?_
  refine j_iadd dX5_cond_206 ?_
  obtain ⟨u2, hu2, hf⟩ := obb hf
  refine m_puti_ hu2 mf_49 mfw_49 rfl dX5_cond_207 ?_
  refine j_aload_n dX5_cond_210 0 rfl ?_
  obtain ⟨u3, hu3, hf⟩ := obb hf
  refine j_cVv [] [] kT_v (bM_mv G) (c5_next  u2 hu3) wv5_next dv5_next rfl ⟨(Nat.le_of_ble_eq_true rfl), (Nat.le_of_ble_eq_true rfl)⟩ (m_recv u2) rfl (Nat.le_of_ble_eq_true rfl) dX5_cond_211 ⟨Nat.le_refl 0, Nat.le_refl 0⟩ ?_
  refine j_iconst dX5_cond_214 ?_
  refine j_istore_n dX5_cond_215 [(1, pI 1), (0, pR (some G.1))] (Nat.le_of_ble_eq_true rfl) rfl ?_
  refine j_goto 12 dX5_cond_216 (by decide) ?_
  exact j_sub [1, 0] _ rfl (hkh 1 u3 hf)
theorem c5_cond_b182 {G : MG} {l : Launch} {a : List PV} {r : Mu} {Kf : (Mu) ⊕ (Mu) ⊕ (Mu) → Option (Mu)} (kh : Int → Mu → Option ((Mu) ⊕ (Mu) ⊕ (Mu))) (hkh : ∀ (z1 : Int) (zu : Mu), ((kh z1 zu).bind Kf = some r) → J5 G l D5_cond a none r zu 12 [(0, pR (some G.1)), (1, pI z1)] []) (hK0 : ∀ q : Mu, Kf (.inl q) = some r → J5 G l D5_cond a none r q 270 [] []) (hK1 : ∀ q : Mu, Kf (.inr (.inl q)) = some r → J5 G l D5_cond a none r q 280 [(0, pR (some G.1))] []) (hK2 : ∀ q : Mu, Kf (.inr (.inr q)) = some r → J5 G l D5_cond a none r q 316 [] []) (v2 : Int) (u : Mu) (hf : (m5_cond_b182 kh v2 u).bind Kf = some r) : J5 G l D5_cond a none r u 182 [(0, pR (some G.1)), (2, pI v2)] [] := by
  unfold m5_cond_b182 at hf
  refine j_aload_n dX5_cond_182 0 rfl ?_
  refine m_geta mf_48 rfl dX5_cond_183 ?_
  refine j_aload_n dX5_cond_186 0 rfl ?_
  refine m_geti mf_49 rfl dX5_cond_187 ?_
  refine j_iload_n dX5_cond_190 1 rfl ?_
  refine j_if_eq (w32 v2) rfl 198 dX5_cond_191 (by decide) (fun h1 => ?_) (fun h1 => ?_)
  · replace hf := itb h1 hf
    refine j_iconst dX5_cond_198 ?_
    exact j_sub [0] _ rfl (c5_cond_b199 (kh) hkh hK0 hK1 hK2 (u.1 49) 4 u hf)
  · replace hf := ieb h1 hf
    refine j_iconst dX5_cond_194 ?_
    refine j_goto 199 dX5_cond_195 (by decide) ?_
    exact j_sub [0] _ rfl (c5_cond_b199 (kh) hkh hK0 hK1 hK2 (u.1 49) 3 u hf)
theorem c5_cond_b123 {G : MG} {l : Launch} {a : List PV} {r : Mu} {Kf : (Mu) ⊕ (Mu) ⊕ (Mu) → Option (Mu)} (kh : Int → Mu → Option ((Mu) ⊕ (Mu) ⊕ (Mu))) (hkh : ∀ (z1 : Int) (zu : Mu), ((kh z1 zu).bind Kf = some r) → J5 G l D5_cond a none r zu 12 [(0, pR (some G.1)), (1, pI z1)] []) (hK0 : ∀ q : Mu, Kf (.inl q) = some r → J5 G l D5_cond a none r q 270 [] []) (hK1 : ∀ q : Mu, Kf (.inr (.inl q)) = some r → J5 G l D5_cond a none r q 280 [(0, pR (some G.1))] []) (hK2 : ∀ q : Mu, Kf (.inr (.inr q)) = some r → J5 G l D5_cond a none r q 316 [] []) (u : Mu) (hf : (m5_cond_b123 kh u).bind Kf = some r) : J5 G l D5_cond a none r u 123 [(0, pR (some G.1))] [] := by
  unfold m5_cond_b123 at hf
  refine j_aload_n dX5_cond_123 0 rfl ?_
  refine j_bipush dX5_cond_124 (by decide) ?_
  obtain ⟨x1, hx1, hf⟩ := obb hf
  refine j_cVr [pI 22] [] kT_v (bM_mv G) (c5_isWord 22 u hx1) wv5_isWord dv5_isWord rfl ⟨(Nat.le_of_ble_eq_true rfl), (Nat.le_of_ble_eq_true rfl)⟩ (m_recv u) rfl (Nat.le_of_ble_eq_true rfl) dX5_cond_126 ⟨Nat.le_refl 0, Nat.le_refl 0⟩ ?_
  refine j_istore_n dX5_cond_129 [(2, pI x1), (0, pR (some G.1))] (Nat.le_of_ble_eq_true rfl) rfl ?_
  refine j_aload_n dX5_cond_130 1 rfl ?_
  obtain ⟨u2, hu2, hf⟩ := obb hf
  refine j_cVv [] [] kT_v (bM_mv G) (c5_countNode  u hu2) wv5_countNode dv5_countNode rfl ⟨(Nat.le_of_ble_eq_true rfl), (Nat.le_of_ble_eq_true rfl)⟩ (m_recv u) rfl (Nat.le_of_ble_eq_true rfl) dX5_cond_131 ⟨Nat.le_refl 0, Nat.le_refl 0⟩ ?_
  replace hf := oba hf
  refine j_sub [1, 0] _ rfl (c5_cond_l134 x1 ?_ NN u2 hf)
  · intro q3 hf
    exact j_sub [0, 1] _ rfl (c5_cond_b182 (kh) hkh hK0 hK1 hK2 x1 q3 hf)
theorem c5_cond_b235 {G : MG} {l : Launch} {a : List PV} {r : Mu} {Kf : Mu → Option (Mu)} {v1 : Int} (kh : Mu → Option (Mu)) (hkh : ∀ (zu : Mu), ((kh  zu).bind Kf = some r) → J5 G l D5_cond a none r zu 219 [(0, pR (some G.1)), (1, pI v1)] []) (hK0 : ∀ q : Mu, Kf q = some r → J5 G l D5_cond a none r q 263 [(0, pR (some G.1)), (1, pI v1)] []) (u : Mu) (hf : (m5_cond_b235 kh v1 u).bind Kf = some r) : J5 G l D5_cond a none r u 235 [(0, pR (some G.1)), (1, pI v1)] [] := by
  unfold m5_cond_b235 at hf
  refine j_aload_n dX5_cond_235 0 rfl ?_
  refine j_aload_n dX5_cond_236 0 rfl ?_
  refine m_geta mf_48 rfl dX5_cond_237 ?_
  refine j_aload_n dX5_cond_240 0 rfl ?_
  refine m_geti mf_49 rfl dX5_cond_241 ?_
  refine j_iconst dX5_cond_244 ?_
  refine j_isub dX5_cond_245 ?_
  obtain ⟨x1, hx1, hf⟩ := obb hf
  refine m_iald mr_48 hx1 dX5_cond_246 ?_
  obtain ⟨u2, hu2, hf⟩ := obb hf
  refine j_cVv [pI x1] [] kT_v (bM_mv G) (c5_emit x1 u hu2) wv5_emit dv5_emit rfl ⟨(Nat.le_of_ble_eq_true rfl), (Nat.le_of_ble_eq_true rfl)⟩ (m_recv u) rfl (Nat.le_of_ble_eq_true rfl) dX5_cond_247 ⟨Nat.le_refl 0, Nat.le_refl 0⟩ ?_
  refine j_aload_n dX5_cond_250 0 rfl ?_
  refine j_dup dX5_cond_251 rfl ?_
  refine m_geti mf_49 rfl dX5_cond_252 ?_
  refine j_iconst dX5_cond_255 ?_
  refine j_isub dX5_cond_256 ?_
  obtain ⟨u3, hu3, hf⟩ := obb hf
  refine m_puti_ hu3 mf_49 mfw_49 rfl dX5_cond_257 ?_
  refine j_goto 219 dX5_cond_260 (by decide) ?_
  exact j_sub [0, 1] _ rfl (hkh u3 hf)
theorem c5_cond_l219 {G : MG} {l : Launch} {a : List PV} {r : Mu} {Kf : Mu → Option (Mu)} (v1 : Int) (hK0 : ∀ q : Mu, Kf q = some r → J5 G l D5_cond a none r q 263 [(0, pR (some G.1)), (1, pI v1)] []) : ∀ (n : Nat) (u : Mu), ((m5_cond_l219 v1 n u).bind Kf = some r) → J5 G l D5_cond a none r u 219 [(0, pR (some G.1)), (1, pI v1)] [] := by
  intro n
  induction n with
  | zero => intro u hf; exact onb hf
  | succ n ih =>
    intro u hf
    unfold m5_cond_l219 at hf
    refine j_aload_n dX5_cond_219 0 rfl ?_
    refine j_iconst dX5_cond_220 ?_
    obtain ⟨x1, hx1, hf⟩ := obb hf
    refine j_cVr [pI 3] [] kT_v (bM_mv G) (c5_onTop 3 u hx1) wv5_onTop dv5_onTop rfl ⟨(Nat.le_of_ble_eq_true rfl), (Nat.le_of_ble_eq_true rfl)⟩ (m_recv u) rfl (Nat.le_of_ble_eq_true rfl) dX5_cond_221 ⟨Nat.le_refl 0, Nat.le_refl 0⟩ ?_
    refine j_if_ne (w32 x1) rfl 235 dX5_cond_224 (by decide) (fun h4 => ?_) (fun h4 => ?_)
    · replace hf := ieb h4 hf
      exact j_sub [0, 1] _ rfl (c5_cond_b235 (m5_cond_l219 v1 n) ih hK0 u hf)
    · replace hf := itb h4 hf
      refine j_aload_n dX5_cond_227 0 rfl ?_
      refine j_iconst dX5_cond_228 ?_
      obtain ⟨x2, hx2, hf⟩ := obb hf
      refine j_cVr [pI 4] [] kT_v (bM_mv G) (c5_onTop 4 u hx2) wv5_onTop dv5_onTop rfl ⟨(Nat.le_of_ble_eq_true rfl), (Nat.le_of_ble_eq_true rfl)⟩ (m_recv u) rfl (Nat.le_of_ble_eq_true rfl) dX5_cond_229 ⟨Nat.le_refl 0, Nat.le_refl 0⟩ ?_
      refine j_if_eq (w32 x2) rfl 263 dX5_cond_232 (by decide) (fun h3 => ?_) (fun h3 => ?_)
      · replace hf := itb h3 hf
        exact j_sub [0, 1] _ rfl (hK0 u hf)
      · replace hf := ieb h3 hf
        exact j_sub [0, 1] _ rfl (c5_cond_b235 (m5_cond_l219 v1 n) ih hK0 u hf)
theorem c5_cond_l12 {G : MG} {l : Launch} {a : List PV} {r : Mu} {Kf : (Mu) ⊕ (Mu) ⊕ (Mu) → Option (Mu)} (hK0 : ∀ q : Mu, Kf (.inl q) = some r → J5 G l D5_cond a none r q 270 [] []) (hK1 : ∀ q : Mu, Kf (.inr (.inl q)) = some r → J5 G l D5_cond a none r q 280 [(0, pR (some G.1))] []) (hK2 : ∀ q : Mu, Kf (.inr (.inr q)) = some r → J5 G l D5_cond a none r q 316 [] []) : ∀ (n : Nat) (v1 : Int) (u : Mu), ((m5_cond_l12 n v1 u).bind Kf = some r) → J5 G l D5_cond a none r u 12 [(0, pR (some G.1)), (1, pI v1)] [] := by
  intro n
  induction n with
  | zero => intro v1 u hf; exact onb hf
  | succ n ih =>
    intro v1 u hf
    unfold m5_cond_l12 at hf
    refine j_aload_n dX5_cond_12 0 rfl ?_
    refine m_geti mf_8 rfl dX5_cond_13 ?_
    refine j_if_ne (w32 (u.1 8)) rfl 316 dX5_cond_16 (by decide) (fun h28 => ?_) (fun h28 => ?_)
    · replace hf := ieb h28 hf
      exact j_sub [] _ rfl (hK2 u hf)
    · replace hf := itb h28 hf
      refine j_iload_n dX5_cond_19 1 rfl ?_
      refine j_if_eq (w32 v1) rfl 105 dX5_cond_20 (by decide) (fun h27 => ?_) (fun h27 => ?_)
      · replace hf := itb h27 hf
        refine j_aload_n dX5_cond_105 0 rfl ?_
        refine j_bipush dX5_cond_106 (by decide) ?_
        obtain ⟨x1, hx1, hf⟩ := obb hf
        refine j_cVr [pI 22] [] kT_v (bM_mv G) (c5_isWord 22 u hx1) wv5_isWord dv5_isWord rfl ⟨(Nat.le_of_ble_eq_true rfl), (Nat.le_of_ble_eq_true rfl)⟩ (m_recv u) rfl (Nat.le_of_ble_eq_true rfl) dX5_cond_108 ⟨Nat.le_refl 0, Nat.le_refl 0⟩ ?_
        refine j_if_ne (w32 x1) rfl 123 dX5_cond_111 (by decide) (fun h12 => ?_) (fun h12 => ?_)
        · replace hf := ieb h12 hf
          exact j_sub [0] _ rfl (c5_cond_b123 (m5_cond_l12 n) ih hK0 hK1 hK2 u hf)
        · replace hf := itb h12 hf
          refine j_aload_n dX5_cond_114 0 rfl ?_
          refine j_bipush dX5_cond_115 (by decide) ?_
          obtain ⟨x2, hx2, hf⟩ := obb hf
          refine j_cVr [pI 21] [] kT_v (bM_mv G) (c5_isWord 21 u hx2) wv5_isWord dv5_isWord rfl ⟨(Nat.le_of_ble_eq_true rfl), (Nat.le_of_ble_eq_true rfl)⟩ (m_recv u) rfl (Nat.le_of_ble_eq_true rfl) dX5_cond_117 ⟨Nat.le_refl 0, Nat.le_refl 0⟩ ?_
          refine j_if_eq (w32 x2) rfl 219 dX5_cond_120 (by decide) (fun h11 => ?_) (fun h11 => ?_)
          · replace hf := itb h11 hf
            replace hf := oba hf
            refine j_sub [0, 1] _ rfl (c5_cond_l219 v1 ?_ NN u hf)
            · intro q3 hf
              refine j_aload_n dX5_cond_263 0 rfl ?_
              refine m_geti mf_49 rfl dX5_cond_264 ?_
              refine j_if_ne (w32 (q3.1 49)) rfl 271 dX5_cond_267 (by decide) (fun h10 => ?_) (fun h10 => ?_)
              · replace hf := ieb h10 hf
                refine j_aload_n dX5_cond_271 0 rfl ?_
                refine j_bipush dX5_cond_272 (by decide) ?_
                obtain ⟨x4, hx4, hf⟩ := obb hf
                refine j_cVr [pI 9] [] kT_v (bM_mv G) (c5_isSign 9 q3 hx4) wv5_isSign dv5_isSign rfl ⟨(Nat.le_of_ble_eq_true rfl), (Nat.le_of_ble_eq_true rfl)⟩ (m_recv q3) rfl (Nat.le_of_ble_eq_true rfl) dX5_cond_274 ⟨Nat.le_refl 0, Nat.le_refl 0⟩ ?_
                refine j_if_ne (w32 x4) rfl 285 dX5_cond_277 (by decide) (fun h9 => ?_) (fun h9 => ?_)
                · replace hf := ieb h9 hf
                  refine j_aload_n dX5_cond_285 0 rfl ?_
                  refine j_dup dX5_cond_286 rfl ?_
                  refine m_geti mf_49 rfl dX5_cond_287 ?_
                  refine j_iconst dX5_cond_290 ?_
                  refine j_isub dX5_cond_291 ?_
                  obtain ⟨u5, hu5, hf⟩ := obb hf
                  refine m_puti_ hu5 mf_49 mfw_49 rfl dX5_cond_292 ?_
                  refine j_aload_n dX5_cond_295 0 rfl ?_
                  refine j_dup dX5_cond_296 rfl ?_
                  refine m_geti mf_50 rfl dX5_cond_297 ?_
                  refine j_iconst dX5_cond_300 ?_
                  refine j_isub dX5_cond_301 ?_
                  obtain ⟨u6, hu6, hf⟩ := obb hf
                  refine m_puti_ hu6 mf_50 mfw_50 rfl dX5_cond_302 ?_
                  refine j_aload_n dX5_cond_305 0 rfl ?_
                  obtain ⟨u7, hu7, hf⟩ := obb hf
                  refine j_cVv [] [] kT_v (bM_mv G) (c5_endPart  u6 hu7) wv5_endPart dv5_endPart rfl ⟨(Nat.le_of_ble_eq_true rfl), (Nat.le_of_ble_eq_true rfl)⟩ (m_recv u6) rfl (Nat.le_of_ble_eq_true rfl) dX5_cond_306 ⟨Nat.le_refl 0, Nat.le_refl 0⟩ ?_
                  refine j_aload_n dX5_cond_309 0 rfl ?_
                  obtain ⟨u8, hu8, hf⟩ := obb hf
                  refine j_cVv [] [] kT_v (bM_mv G) (c5_next  u7 hu8) wv5_next dv5_next rfl ⟨(Nat.le_of_ble_eq_true rfl), (Nat.le_of_ble_eq_true rfl)⟩ (m_recv u7) rfl (Nat.le_of_ble_eq_true rfl) dX5_cond_310 ⟨Nat.le_refl 0, Nat.le_refl 0⟩ ?_
                  refine j_goto 12 dX5_cond_313 (by decide) ?_
                  exact j_sub [0, 1] _ rfl (ih v1 u8 hf)
                · replace hf := itb h9 hf
                  exact j_sub [0] _ rfl (hK1 q3 hf)
              · replace hf := itb h10 hf
                exact j_sub [] _ rfl (hK0 q3 hf)
          · replace hf := ieb h11 hf
            exact j_sub [0] _ rfl (c5_cond_b123 (m5_cond_l12 n) ih hK0 hK1 hK2 u hf)
      · replace hf := ieb h27 hf
        refine j_aload_n dX5_cond_23 0 rfl ?_
        refine j_bipush dX5_cond_24 (by decide) ?_
        obtain ⟨x13, hx13, hf⟩ := obb hf
        refine j_cVr [pI 23] [] kT_v (bM_mv G) (c5_isWord 23 u hx13) wv5_isWord dv5_isWord rfl ⟨(Nat.le_of_ble_eq_true rfl), (Nat.le_of_ble_eq_true rfl)⟩ (m_recv u) rfl (Nat.le_of_ble_eq_true rfl) dX5_cond_26 ⟨Nat.le_refl 0, Nat.le_refl 0⟩ ?_
        refine j_if_eq (w32 x13) rfl 48 dX5_cond_29 (by decide) (fun h26 => ?_) (fun h26 => ?_)
        · replace hf := itb h26 hf
          refine j_aload_n dX5_cond_48 0 rfl ?_
          refine j_bipush dX5_cond_49 (by decide) ?_
          obtain ⟨x14, hx14, hf⟩ := obb hf
          refine j_cVr [pI 8] [] kT_v (bM_mv G) (c5_isSign 8 u hx14) wv5_isSign dv5_isSign rfl ⟨(Nat.le_of_ble_eq_true rfl), (Nat.le_of_ble_eq_true rfl)⟩ (m_recv u) rfl (Nat.le_of_ble_eq_true rfl) dX5_cond_51 ⟨Nat.le_refl 0, Nat.le_refl 0⟩ ?_
          refine j_if_eq (w32 x14) rfl 70 dX5_cond_54 (by decide) (fun h22 => ?_) (fun h22 => ?_)
          · replace hf := itb h22 hf
            refine j_aload_n dX5_cond_70 0 rfl ?_
            refine m_geti mf_4 rfl dX5_cond_71 ?_
            refine j_iconst dX5_cond_74 ?_
            refine j_icmp_ne (w32 (u.1 4)) 1 rfl rfl 98 dX5_cond_75 (by decide) (fun h19 => ?_) (fun h19 => ?_)
            · replace hf := ieb h19 hf
              refine j_aload_n dX5_cond_98 0 rfl ?_
              obtain ⟨u15, hu15, hf⟩ := obb hf
              refine j_cVv [] [] kT_v (bM_mv G) (c5_cannot  u hu15) wv5_cannot dv5_cannot rfl ⟨(Nat.le_of_ble_eq_true rfl), (Nat.le_of_ble_eq_true rfl)⟩ (m_recv u) rfl (Nat.le_of_ble_eq_true rfl) dX5_cond_99 ⟨Nat.le_refl 0, Nat.le_refl 0⟩ ?_
              refine j_goto 12 dX5_cond_102 (by decide) ?_
              exact j_sub [0, 1] _ rfl (ih v1 u15 hf)
            · replace hf := itb h19 hf
              refine j_aload_n dX5_cond_78 0 rfl ?_
              obtain ⟨u16, hu16, hf⟩ := obb hf
              refine j_cVv [] [] kT_v (bM_mv G) (c5_part  u hu16) wv5_part dv5_part rfl ⟨(Nat.le_of_ble_eq_true rfl), (Nat.le_of_ble_eq_true rfl)⟩ (m_recv u) rfl (Nat.le_of_ble_eq_true rfl) dX5_cond_79 ⟨Nat.le_refl 0, Nat.le_refl 0⟩ ?_
              refine j_aload_n dX5_cond_82 0 rfl ?_
              refine m_geti mf_8 rfl dX5_cond_83 ?_
              refine j_if_ne (w32 (u16.1 8)) rfl 12 dX5_cond_86 (by decide) (fun h18 => ?_) (fun h18 => ?_)
              · replace hf := ieb h18 hf
                exact j_sub [0, 1] _ rfl (ih v1 u16 hf)
              · replace hf := itb h18 hf
                refine j_aload_n dX5_cond_89 0 rfl ?_
                obtain ⟨u17, hu17, hf⟩ := obb hf
                refine j_cVv [] [] kT_v (bM_mv G) (c5_endPart  u16 hu17) wv5_endPart dv5_endPart rfl ⟨(Nat.le_of_ble_eq_true rfl), (Nat.le_of_ble_eq_true rfl)⟩ (m_recv u16) rfl (Nat.le_of_ble_eq_true rfl) dX5_cond_90 ⟨Nat.le_refl 0, Nat.le_refl 0⟩ ?_
                refine j_iconst dX5_cond_93 ?_
                refine j_istore_n dX5_cond_94 [(1, pI 0), (0, pR (some G.1))] (Nat.le_of_ble_eq_true rfl) rfl ?_
                refine j_goto 12 dX5_cond_95 (by decide) ?_
                exact j_sub [1, 0] _ rfl (ih 0 u17 hf)
          · replace hf := ieb h22 hf
            refine j_aload_n dX5_cond_57 0 rfl ?_
            refine j_bipush dX5_cond_58 (by decide) ?_
            obtain ⟨u20, hu20, hf⟩ := obb hf
            refine j_cVv [pI 8] [] kT_v (bM_mv G) (c5_deeper 8 u hu20) wv5_deeper dv5_deeper rfl ⟨(Nat.le_of_ble_eq_true rfl), (Nat.le_of_ble_eq_true rfl)⟩ (m_recv u) rfl (Nat.le_of_ble_eq_true rfl) dX5_cond_60 ⟨Nat.le_refl 0, Nat.le_refl 0⟩ ?_
            refine j_aload_n dX5_cond_63 0 rfl ?_
            obtain ⟨u21, hu21, hf⟩ := obb hf
            refine j_cVv [] [] kT_v (bM_mv G) (c5_next  u20 hu21) wv5_next dv5_next rfl ⟨(Nat.le_of_ble_eq_true rfl), (Nat.le_of_ble_eq_true rfl)⟩ (m_recv u20) rfl (Nat.le_of_ble_eq_true rfl) dX5_cond_64 ⟨Nat.le_refl 0, Nat.le_refl 0⟩ ?_
            refine j_goto 12 dX5_cond_67 (by decide) ?_
            exact j_sub [0, 1] _ rfl (ih v1 u21 hf)
        · replace hf := ieb h26 hf
          refine j_aload_n dX5_cond_32 0 rfl ?_
          obtain ⟨u23, hu23, hf⟩ := obb hf
          refine j_cVv [] [] kT_v (bM_mv G) (c5_countNode  u hu23) wv5_countNode dv5_countNode rfl ⟨(Nat.le_of_ble_eq_true rfl), (Nat.le_of_ble_eq_true rfl)⟩ (m_recv u) rfl (Nat.le_of_ble_eq_true rfl) dX5_cond_33 ⟨Nat.le_refl 0, Nat.le_refl 0⟩ ?_
          refine j_aload_n dX5_cond_36 0 rfl ?_
          refine j_iconst dX5_cond_37 ?_
          obtain ⟨u24, hu24, hf⟩ := obb hf
          refine j_cVv [pI 2] [] kT_v (bM_mv G) (c5_deeper 2 u23 hu24) wv5_deeper dv5_deeper rfl ⟨(Nat.le_of_ble_eq_true rfl), (Nat.le_of_ble_eq_true rfl)⟩ (m_recv u23) rfl (Nat.le_of_ble_eq_true rfl) dX5_cond_38 ⟨Nat.le_refl 0, Nat.le_refl 0⟩ ?_
          refine j_aload_n dX5_cond_41 0 rfl ?_
          obtain ⟨u25, hu25, hf⟩ := obb hf
          refine j_cVv [] [] kT_v (bM_mv G) (c5_next  u24 hu25) wv5_next dv5_next rfl ⟨(Nat.le_of_ble_eq_true rfl), (Nat.le_of_ble_eq_true rfl)⟩ (m_recv u24) rfl (Nat.le_of_ble_eq_true rfl) dX5_cond_42 ⟨Nat.le_refl 0, Nat.le_refl 0⟩ ?_
          refine j_goto 12 dX5_cond_45 (by decide) ?_
          exact j_sub [0, 1] _ rfl (ih v1 u25 hf)
theorem c5_cond {G : MG} {l : Launch} {r : Mu}  (u : Mu) (hf : m5_cond u = some r) : JM kT (bM G) (aM G) l yX5_cond D5_cond [pR (some G.1)] u none r 0 0 := by
  refine j_met (lv0 := [(0, pR (some G.1))]) ⟨pl_X5, rfl, rfl, (Nat.le_of_ble_eq_true rfl), rfl⟩ ?_
  unfold m5_cond at hf
  refine j_aload_n dX5_cond_0 0 rfl ?_
  refine j_iconst dX5_cond_1 ?_
  obtain ⟨u1, hu1, hf⟩ := ob hf
  refine m_puti_ hu1 mf_49 mfw_49 rfl dX5_cond_2 ?_
  refine j_aload_n dX5_cond_5 0 rfl ?_
  refine j_iconst dX5_cond_6 ?_
  obtain ⟨u2, hu2, hf⟩ := ob hf
  refine m_puti_ hu2 mf_50 mfw_50 rfl dX5_cond_7 ?_
  refine j_iconst dX5_cond_10 ?_
  refine j_istore_n dX5_cond_11 [(1, pI 1), (0, pR (some G.1))] (Nat.le_of_ble_eq_true rfl) rfl ?_
  refine j_sub [1, 0] _ rfl (c5_cond_l12 ?_ ?_ ?_ NN 1 u2 hf)
  · intro q3 hf
    simp only [Sum.elim_inl, Sum.elim_inr] at hf
    replace hf := Option.some.inj hf
    subst hf
    exact j_return (bM_mv G) ⟨Nat.le_refl 0, Nat.le_refl 0⟩ rfl dX5_cond_270
  · intro q4 hf
    simp only [Sum.elim_inl, Sum.elim_inr] at hf
    refine j_aload_n dX5_cond_280 0 rfl ?_
    obtain ⟨u5, hu5, hf⟩ := ob hf
    refine j_cVv [] [] kT_v (bM_mv G) (c5_cannot  q4 hu5) wv5_cannot dv5_cannot rfl ⟨(Nat.le_of_ble_eq_true rfl), (Nat.le_of_ble_eq_true rfl)⟩ (m_recv q4) rfl (Nat.le_of_ble_eq_true rfl) dX5_cond_281 ⟨Nat.le_refl 0, Nat.le_refl 0⟩ ?_
    replace hf := Option.some.inj hf
    subst hf
    exact j_return (bM_mv G) ⟨Nat.le_refl 0, Nat.le_refl 0⟩ rfl dX5_cond_284
  · intro q6 hf
    simp only [Sum.elim_inl, Sum.elim_inr] at hf
    replace hf := Option.some.inj hf
    subst hf
    exact j_return (bM_mv G) ⟨Nat.le_refl 0, Nat.le_refl 0⟩ rfl dX5_cond_316
theorem c5_wantsSign {G : MG} {l : Launch} {r : Mu} (v1 : Int) (u : Mu) (hf : m5_wantsSign v1 u = some r) : JM kT (bM G) (aM G) l yX5_wantsSign D5_wantsSign [pR (some G.1), pI v1] u none r 0 0 := by
  refine j_met (lv0 := [(0, pR (some G.1)), (1, pI v1)]) ⟨pl_X5, rfl, rfl, (Nat.le_of_ble_eq_true rfl), rfl⟩ ?_
  unfold m5_wantsSign at hf
  refine j_aload_n dX5_wantsSign_0 0 rfl ?_
  refine m_geti mf_8 rfl dX5_wantsSign_1 ?_
  refine j_if_le (w32 (u.1 8)) rfl 8 dX5_wantsSign_4 (by decide) (fun h5 => ?_) (fun h5 => ?_)
  · replace hf := it h5 hf
    refine j_aload_n dX5_wantsSign_8 0 rfl ?_
    refine j_iload_n dX5_wantsSign_9 1 rfl ?_
    obtain ⟨x1, hx1, hf⟩ := ob hf
    refine j_cVr [pI v1] [] kT_v (bM_mv G) (c5_isSign v1 u hx1) wv5_isSign dv5_isSign rfl ⟨(Nat.le_of_ble_eq_true rfl), (Nat.le_of_ble_eq_true rfl)⟩ (m_recv u) rfl (Nat.le_of_ble_eq_true rfl) dX5_wantsSign_10 ⟨Nat.le_refl 0, Nat.le_refl 0⟩ ?_
    refine j_if_eq (w32 x1) rfl 23 dX5_wantsSign_13 (by decide) (fun h4 => ?_) (fun h4 => ?_)
    · replace hf := it h4 hf
      refine j_aload_n dX5_wantsSign_23 0 rfl ?_
      obtain ⟨u2, hu2, hf⟩ := ob hf
      refine j_cVv [] [] kT_v (bM_mv G) (c5_cannot  u hu2) wv5_cannot dv5_cannot rfl ⟨(Nat.le_of_ble_eq_true rfl), (Nat.le_of_ble_eq_true rfl)⟩ (m_recv u) rfl (Nat.le_of_ble_eq_true rfl) dX5_wantsSign_24 ⟨Nat.le_refl 0, Nat.le_refl 0⟩ ?_
      replace hf := Option.some.inj hf
      subst hf
      exact j_return (bM_mv G) ⟨Nat.le_refl 0, Nat.le_refl 0⟩ rfl dX5_wantsSign_27
    · replace hf := ie h4 hf
      refine j_aload_n dX5_wantsSign_16 0 rfl ?_
      obtain ⟨u3, hu3, hf⟩ := ob hf
      refine j_cVv [] [] kT_v (bM_mv G) (c5_next  u hu3) wv5_next dv5_next rfl ⟨(Nat.le_of_ble_eq_true rfl), (Nat.le_of_ble_eq_true rfl)⟩ (m_recv u) rfl (Nat.le_of_ble_eq_true rfl) dX5_wantsSign_17 ⟨Nat.le_refl 0, Nat.le_refl 0⟩ ?_
      refine j_goto 27 dX5_wantsSign_20 (by decide) ?_
      replace hf := Option.some.inj hf
      subst hf
      exact j_return (bM_mv G) ⟨Nat.le_refl 0, Nat.le_refl 0⟩ rfl dX5_wantsSign_27
  · replace hf := ie h5 hf
    replace hf := Option.some.inj hf
    subst hf
    exact j_return (bM_mv G) ⟨Nat.le_refl 0, Nat.le_refl 0⟩ rfl dX5_wantsSign_7
theorem c5_readClause {G : MG} {l : Launch} {r : Mu}  (u : Mu) (hf : m5_readClause u = some r) : JM kT (bM G) (aM G) l yX5_readClause D5_readClause [pR (some G.1)] u none r 0 0 := by
  refine j_met (lv0 := [(0, pR (some G.1))]) ⟨pl_X5, rfl, rfl, (Nat.le_of_ble_eq_true rfl), rfl⟩ ?_
  unfold m5_readClause at hf
  refine j_aload_n dX5_readClause_0 0 rfl ?_
  refine m_geta mf_53 rfl dX5_readClause_1 ?_
  refine j_aload_n dX5_readClause_4 0 rfl ?_
  refine m_geti mf_56 rfl dX5_readClause_5 ?_
  refine j_aload_n dX5_readClause_8 0 rfl ?_
  refine m_geti mf_7 rfl dX5_readClause_9 ?_
  refine j_bipush dX5_readClause_12 (by decide) ?_
  refine j_isub dX5_readClause_14 ?_
  obtain ⟨u1, hu1, hf⟩ := ob hf
  refine m_iast mr_53 hu1 dX5_readClause_15 ?_
  refine j_aload_n dX5_readClause_16 0 rfl ?_
  obtain ⟨u2, hu2, hf⟩ := ob hf
  refine j_cVv [] [] kT_v (bM_mv G) (c5_next  u1 hu2) wv5_next dv5_next rfl ⟨(Nat.le_of_ble_eq_true rfl), (Nat.le_of_ble_eq_true rfl)⟩ (m_recv u1) rfl (Nat.le_of_ble_eq_true rfl) dX5_readClause_17 ⟨Nat.le_refl 0, Nat.le_refl 0⟩ ?_
  refine j_aload_n dX5_readClause_20 0 rfl ?_
  refine m_geta mf_54 rfl dX5_readClause_21 ?_
  refine j_aload_n dX5_readClause_24 0 rfl ?_
  refine m_geti mf_56 rfl dX5_readClause_25 ?_
  refine j_aload_n dX5_readClause_28 0 rfl ?_
  refine m_geti mf_46 rfl dX5_readClause_29 ?_
  obtain ⟨u3, hu3, hf⟩ := ob hf
  refine m_iast mr_54 hu3 dX5_readClause_32 ?_
  refine j_aload_n dX5_readClause_33 0 rfl ?_
  obtain ⟨u4, hu4, hf⟩ := ob hf
  refine j_cVv [] [] kT_v (bM_mv G) (c5_cond  u3 hu4) wv5_cond dv5_cond rfl ⟨(Nat.le_of_ble_eq_true rfl), (Nat.le_of_ble_eq_true rfl)⟩ (m_recv u3) rfl (Nat.le_of_ble_eq_true rfl) dX5_readClause_34 ⟨Nat.le_refl 0, Nat.le_refl 0⟩ ?_
  refine j_aload_n dX5_readClause_37 0 rfl ?_
  refine m_geta mf_55 rfl dX5_readClause_38 ?_
  refine j_aload_n dX5_readClause_41 0 rfl ?_
  refine m_geti mf_56 rfl dX5_readClause_42 ?_
  refine j_aload_n dX5_readClause_45 0 rfl ?_
  refine m_geti mf_46 rfl dX5_readClause_46 ?_
  obtain ⟨u5, hu5, hf⟩ := ob hf
  refine m_iast mr_55 hu5 dX5_readClause_49 ?_
  refine j_aload_n dX5_readClause_50 0 rfl ?_
  refine j_dup dX5_readClause_51 rfl ?_
  refine m_geti mf_56 rfl dX5_readClause_52 ?_
  refine j_iconst dX5_readClause_55 ?_
  refine j_iadd dX5_readClause_56 ?_
  obtain ⟨u6, hu6, hf⟩ := ob hf
  refine m_puti_ hu6 mf_56 mfw_56 rfl dX5_readClause_57 ?_
  refine j_aload_n dX5_readClause_60 0 rfl ?_
  refine j_bipush dX5_readClause_61 (by decide) ?_
  obtain ⟨u7, hu7, hf⟩ := ob hf
  refine j_cVv [pI 6] [] kT_v (bM_mv G) (c5_wantsSign 6 u6 hu7) wv5_wantsSign dv5_wantsSign rfl ⟨(Nat.le_of_ble_eq_true rfl), (Nat.le_of_ble_eq_true rfl)⟩ (m_recv u6) rfl (Nat.le_of_ble_eq_true rfl) dX5_readClause_63 ⟨Nat.le_refl 0, Nat.le_refl 0⟩ ?_
  replace hf := Option.some.inj hf
  subst hf
  exact j_return (bM_mv G) ⟨Nat.le_refl 0, Nat.le_refl 0⟩ rfl dX5_readClause_66
theorem c5_newName_b47 {G : MG} {l : Launch} {a : List PV} {r : Mu} (u : Mu) (hf : m5_newName_b47 u = some r) : J5 G l D5_newName a none r u 47 [(0, pR (some G.1))] [] := by
  unfold m5_newName_b47 at hf
  refine j_aload_n dX5_newName_47 0 rfl ?_
  refine j_iconst dX5_newName_48 ?_
  obtain ⟨u1, hu1, hf⟩ := ob hf
  refine j_cVv [pI 3] [] kT_v (bM_mv G) (c5_wrong 3 u hu1) wv5_wrong dv5_wrong rfl ⟨(Nat.le_of_ble_eq_true rfl), (Nat.le_of_ble_eq_true rfl)⟩ (m_recv u) rfl (Nat.le_of_ble_eq_true rfl) dX5_newName_49 ⟨Nat.le_refl 0, Nat.le_refl 0⟩ ?_
  refine j_goto 66 dX5_newName_52 (by decide) ?_
  replace hf := Option.some.inj hf
  subst hf
  exact j_return (bM_mv G) ⟨Nat.le_refl 0, Nat.le_refl 0⟩ rfl dX5_newName_66
theorem c5_newName {G : MG} {l : Launch} {r : Mu} (v1 : Int) (v2 : Int) (u : Mu) (hf : m5_newName v1 v2 u = some r) : JM kT (bM G) (aM G) l yX5_newName D5_newName [pR (some G.1), pI v1, pI v2] u none r 0 0 := by
  refine j_met (lv0 := [(0, pR (some G.1)), (1, pI v1), (2, pI v2)]) ⟨pl_X5, rfl, rfl, (Nat.le_of_ble_eq_true rfl), rfl⟩ ?_
  unfold m5_newName at hf
  refine j_aload_n dX5_newName_0 0 rfl ?_
  refine m_geti mf_8 rfl dX5_newName_1 ?_
  refine j_if_le (w32 (u.1 8)) rfl 8 dX5_newName_4 (by decide) (fun h9 => ?_) (fun h9 => ?_)
  · replace hf := it h9 hf
    refine j_aload_n dX5_newName_8 0 rfl ?_
    refine m_geti mf_4 rfl dX5_newName_9 ?_
    refine j_iconst dX5_newName_12 ?_
    refine j_icmp_eq (w32 (u.1 4)) 1 rfl rfl 23 dX5_newName_13 (by decide) (fun h8 => ?_) (fun h8 => ?_)
    · replace hf := it h8 hf
      refine j_aload_n dX5_newName_23 0 rfl ?_
      refine j_iconst dX5_newName_24 ?_
      refine j_aload_n dX5_newName_25 0 rfl ?_
      refine m_getl mf_6 rfl dX5_newName_26 ?_
      obtain ⟨x1, hx1, hf⟩ := ob hf
      refine j_cVr [pI 0, pL (u.1 6)] [] kT_v (bM_mv G) (c5_factOf 0 (u.1 6) u hx1) wv5_factOf dv5_factOf rfl ⟨(Nat.le_of_ble_eq_true rfl), (Nat.le_of_ble_eq_true rfl)⟩ (m_recv u) rfl (Nat.le_of_ble_eq_true rfl) dX5_newName_29 ⟨Nat.le_refl 0, Nat.le_refl 0⟩ ?_
      refine j_if_ge (w32 x1) rfl 47 dX5_newName_32 (by decide) (fun h6 => ?_) (fun h6 => ?_)
      · replace hf := it h6 hf
        exact j_sub [0] _ rfl (c5_newName_b47 u hf)
      · replace hf := ie h6 hf
        refine j_aload_n dX5_newName_35 0 rfl ?_
        refine j_iconst dX5_newName_36 ?_
        refine j_aload_n dX5_newName_37 0 rfl ?_
        refine m_getl mf_6 rfl dX5_newName_38 ?_
        obtain ⟨x2, hx2, hf⟩ := ob hf
        refine j_cVr [pI 0, pL (u.1 6)] [] kT_v (bM_mv G) (c5_meanOf 0 (u.1 6) u hx2) wv5_meanOf dv5_meanOf rfl ⟨(Nat.le_of_ble_eq_true rfl), (Nat.le_of_ble_eq_true rfl)⟩ (m_recv u) rfl (Nat.le_of_ble_eq_true rfl) dX5_newName_41 ⟨Nat.le_refl 0, Nat.le_refl 0⟩ ?_
        refine j_if_lt (w32 x2) rfl 55 dX5_newName_44 (by decide) (fun h5 => ?_) (fun h5 => ?_)
        · replace hf := it h5 hf
          refine j_iload_n dX5_newName_55 1 rfl ?_
          refine j_iload_n dX5_newName_56 2 rfl ?_
          refine j_icmp_ne (w32 v1) (w32 v2) rfl rfl 66 dX5_newName_57 (by decide) (fun h4 => ?_) (fun h4 => ?_)
          · replace hf := ie h4 hf
            replace hf := Option.some.inj hf
            subst hf
            exact j_return (bM_mv G) ⟨Nat.le_refl 0, Nat.le_refl 0⟩ rfl dX5_newName_66
          · replace hf := it h4 hf
            refine j_aload_n dX5_newName_60 0 rfl ?_
            refine j_bipush dX5_newName_61 (by decide) ?_
            obtain ⟨u3, hu3, hf⟩ := ob hf
            refine j_cVv [pI 6] [] kT_v (bM_mv G) (c5_wrong 6 u hu3) wv5_wrong dv5_wrong rfl ⟨(Nat.le_of_ble_eq_true rfl), (Nat.le_of_ble_eq_true rfl)⟩ (m_recv u) rfl (Nat.le_of_ble_eq_true rfl) dX5_newName_63 ⟨Nat.le_refl 0, Nat.le_refl 0⟩ ?_
            replace hf := Option.some.inj hf
            subst hf
            exact j_return (bM_mv G) ⟨Nat.le_refl 0, Nat.le_refl 0⟩ rfl dX5_newName_66
        · replace hf := ie h5 hf
          exact j_sub [0] _ rfl (c5_newName_b47 u hf)
    · replace hf := ie h8 hf
      refine j_aload_n dX5_newName_16 0 rfl ?_
      obtain ⟨u7, hu7, hf⟩ := ob hf
      refine j_cVv [] [] kT_v (bM_mv G) (c5_cannot  u hu7) wv5_cannot dv5_cannot rfl ⟨(Nat.le_of_ble_eq_true rfl), (Nat.le_of_ble_eq_true rfl)⟩ (m_recv u) rfl (Nat.le_of_ble_eq_true rfl) dX5_newName_17 ⟨Nat.le_refl 0, Nat.le_refl 0⟩ ?_
      refine j_goto 66 dX5_newName_20 (by decide) ?_
      replace hf := Option.some.inj hf
      subst hf
      exact j_return (bM_mv G) ⟨Nat.le_refl 0, Nat.le_refl 0⟩ rfl dX5_newName_66
  · replace hf := ie h9 hf
    replace hf := Option.some.inj hf
    subst hf
    exact j_return (bM_mv G) ⟨Nat.le_refl 0, Nat.le_refl 0⟩ rfl dX5_newName_7
theorem c5_readChoices_l2 {G : MG} {l : Launch} {a : List PV} {r : Mu} {Kf : Mu → Option (Mu)} (v1 : Int) (hK0 : ∀ q : Mu, Kf q = some r → J5 G l D5_readChoices a none r q 137 [] []) : ∀ (n : Nat) (v2 : Int) (u : Mu), ((m5_readChoices_l2 v1 n v2 u).bind Kf = some r) → J5 G l D5_readChoices a none r u 2 [(0, pR (some G.1)), (1, pI v1), (2, pI v2)] [] := by
  intro n
  induction n with
  | zero => intro v2 u hf; exact onb hf
  | succ n ih =>
    intro v2 u hf
    unfold m5_readChoices_l2 at hf
    refine j_iload_n dX5_readChoices_2 2 rfl ?_
    refine j_if_eq (w32 v2) rfl 137 dX5_readChoices_3 (by decide) (fun h21 => ?_) (fun h21 => ?_)
    · replace hf := itb h21 hf
      exact j_sub [] _ rfl (hK0 u hf)
    · replace hf := ieb h21 hf
      refine j_aload_n dX5_readChoices_6 0 rfl ?_
      refine m_geti mf_8 rfl dX5_readChoices_7 ?_
      refine j_if_ne (w32 (u.1 8)) rfl 137 dX5_readChoices_10 (by decide) (fun h20 => ?_) (fun h20 => ?_)
      · replace hf := ieb h20 hf
        exact j_sub [] _ rfl (hK0 u hf)
      · replace hf := itb h20 hf
        refine j_aload_n dX5_readChoices_13 0 rfl ?_
        refine m_geti mf_4 rfl dX5_readChoices_14 ?_
        refine j_iconst dX5_readChoices_17 ?_
        refine j_icmp_eq (w32 (u.1 4)) 1 rfl rfl 28 dX5_readChoices_18 (by decide) (fun h19 => ?_) (fun h19 => ?_)
        · replace hf := itb h19 hf
          refine j_aload_n dX5_readChoices_28 0 rfl ?_
          refine j_iload_n dX5_readChoices_29 1 rfl ?_
          refine j_aload_n dX5_readChoices_30 0 rfl ?_
          refine m_getl mf_6 rfl dX5_readChoices_31 ?_
          obtain ⟨x1, hx1, hf⟩ := obb hf
          refine j_cVr [pI v1, pL (u.1 6)] [] kT_v (bM_mv G) (c5_choiceOf v1 (u.1 6) u hx1) wv5_choiceOf dv5_choiceOf rfl ⟨(Nat.le_of_ble_eq_true rfl), (Nat.le_of_ble_eq_true rfl)⟩ (m_recv u) rfl (Nat.le_of_ble_eq_true rfl) dX5_readChoices_34 ⟨Nat.le_refl 0, Nat.le_refl 0⟩ ?_
          refine j_if_lt (w32 x1) rfl 48 dX5_readChoices_37 (by decide) (fun h17 => ?_) (fun h17 => ?_)
          · replace hf := itb h17 hf
            refine j_aload_n dX5_readChoices_48 0 rfl ?_
            refine m_geta mf_15 rfl dX5_readChoices_49 ?_
            refine j_iload_n dX5_readChoices_52 1 rfl ?_
            obtain ⟨x2, hx2, hf⟩ := obb hf
            refine m_iald mr_15 hx2 dX5_readChoices_53 ?_
            refine j_bipush dX5_readChoices_54 (by decide) ?_
            refine j_icmp_ne (w32 x2) 6 rfl rfl 68 dX5_readChoices_56 (by decide) (fun h15 => ?_) (fun h15 => ?_)
            · replace hf := ieb h15 hf
              refine j_aload_n dX5_readChoices_68 0 rfl ?_
              refine m_geta mf_16 rfl dX5_readChoices_69 ?_
              refine j_bipush dX5_readChoices_72 (by decide) ?_
              refine j_iload_n dX5_readChoices_74 1 rfl ?_
              refine j_imul dX5_readChoices_75 ?_
              refine j_aload_n dX5_readChoices_76 0 rfl ?_
              refine m_geta mf_15 rfl dX5_readChoices_77 ?_
              refine j_iload_n dX5_readChoices_80 1 rfl ?_
              obtain ⟨x3, hx3, hf⟩ := obb hf
              refine m_iald mr_15 hx3 dX5_readChoices_81 ?_
              refine j_iadd dX5_readChoices_82 ?_
              refine j_aload_n dX5_readChoices_83 0 rfl ?_
              refine m_getl mf_6 rfl dX5_readChoices_84 ?_
              obtain ⟨u4, hu4, hf⟩ := obb hf
              refine m_last mr_16 hu4 dX5_readChoices_87 ?_
              refine j_aload_n dX5_readChoices_88 0 rfl ?_
              refine m_geta mf_15 rfl dX5_readChoices_89 ?_
              refine j_iload_n dX5_readChoices_92 1 rfl ?_
              refine j_dup2_11 dX5_readChoices_93 rfl rfl ?_
              obtain ⟨x5, hx5, hf⟩ := obb hf
              refine m_iald mr_15 hx5 dX5_readChoices_94 ?_
              refine j_iconst dX5_readChoices_95 ?_
              refine j_iadd dX5_readChoices_96 ?_
              obtain ⟨u6, hu6, hf⟩ := obb hf
              refine m_iast mr_15 hu6 dX5_readChoices_97 ?_
              refine j_aload_n dX5_readChoices_98 0 rfl ?_
              obtain ⟨u7, hu7, hf⟩ := obb hf
              refine j_cVv [] [] kT_v (bM_mv G) (c5_next  u6 hu7) wv5_next dv5_next rfl ⟨(Nat.le_of_ble_eq_true rfl), (Nat.le_of_ble_eq_true rfl)⟩ (m_recv u6) rfl (Nat.le_of_ble_eq_true rfl) dX5_readChoices_99 ⟨Nat.le_refl 0, Nat.le_refl 0⟩ ?_
              refine j_aload_n dX5_readChoices_102 0 rfl ?_
              refine j_bipush dX5_readChoices_103 (by decide) ?_
              obtain ⟨x8, hx8, hf⟩ := obb hf
              refine j_cVr [pI 7] [] kT_v (bM_mv G) (c5_isSign 7 u7 hx8) wv5_isSign dv5_isSign rfl ⟨(Nat.le_of_ble_eq_true rfl), (Nat.le_of_ble_eq_true rfl)⟩ (m_recv u7) rfl (Nat.le_of_ble_eq_true rfl) dX5_readChoices_105 ⟨Nat.le_refl 0, Nat.le_refl 0⟩ ?_
              refine j_istore_n dX5_readChoices_108 [(2, pI x8), (0, pR (some G.1)), (1, pI v1)] (Nat.le_of_ble_eq_true rfl) rfl ?_
              refine j_iload_n dX5_readChoices_109 0 rfl ?_
              refine j_if_eq (w32 x8) rfl 120 dX5_readChoices_110 (by decide) (fun h13 => ?_) (fun h13 => ?_)
              · replace hf := itb h13 hf
                refine j_aload_n dX5_readChoices_120 1 rfl ?_
                refine m_geta mf_15 rfl dX5_readChoices_121 ?_
                refine j_iload_n dX5_readChoices_124 2 rfl ?_
                obtain ⟨x9, hx9, hf⟩ := obb hf
                refine m_iald mr_15 hx9 dX5_readChoices_125 ?_
                refine j_iconst dX5_readChoices_126 ?_
                refine j_icmp_ne (w32 x9) 1 rfl rfl 2 dX5_readChoices_127 (by decide) (fun h11 => ?_) (fun h11 => ?_)
                · replace hf := ieb h11 hf
                  exact j_sub [1, 2, 0] _ rfl (ih x8 u7 hf)
                · replace hf := itb h11 hf
                  refine j_aload_n dX5_readChoices_130 1 rfl ?_
                  obtain ⟨u10, hu10, hf⟩ := obb hf
                  refine j_cVv [] [] kT_v (bM_mv G) (c5_cannot  u7 hu10) wv5_cannot dv5_cannot rfl ⟨(Nat.le_of_ble_eq_true rfl), (Nat.le_of_ble_eq_true rfl)⟩ (m_recv u7) rfl (Nat.le_of_ble_eq_true rfl) dX5_readChoices_131 ⟨Nat.le_refl 0, Nat.le_refl 0⟩ ?_
                  refine j_goto 2 dX5_readChoices_134 (by decide) ?_
                  exact j_sub [1, 2, 0] _ rfl (ih x8 u10 hf)
              · replace hf := ieb h13 hf
                refine j_aload_n dX5_readChoices_113 1 rfl ?_
                obtain ⟨u12, hu12, hf⟩ := obb hf
                refine j_cVv [] [] kT_v (bM_mv G) (c5_next  u7 hu12) wv5_next dv5_next rfl ⟨(Nat.le_of_ble_eq_true rfl), (Nat.le_of_ble_eq_true rfl)⟩ (m_recv u7) rfl (Nat.le_of_ble_eq_true rfl) dX5_readChoices_114 ⟨Nat.le_refl 0, Nat.le_refl 0⟩ ?_
                refine j_goto 2 dX5_readChoices_117 (by decide) ?_
                exact j_sub [1, 2, 0] _ rfl (ih x8 u12 hf)
            · replace hf := itb h15 hf
              refine j_aload_n dX5_readChoices_59 0 rfl ?_
              refine j_bipush dX5_readChoices_60 (by decide) ?_
              obtain ⟨u14, hu14, hf⟩ := obb hf
              refine j_cVv [pI 6] [] kT_v (bM_mv G) (c5_wrong 6 u hu14) wv5_wrong dv5_wrong rfl ⟨(Nat.le_of_ble_eq_true rfl), (Nat.le_of_ble_eq_true rfl)⟩ (m_recv u) rfl (Nat.le_of_ble_eq_true rfl) dX5_readChoices_62 ⟨Nat.le_refl 0, Nat.le_refl 0⟩ ?_
              refine j_goto 2 dX5_readChoices_65 (by decide) ?_
              exact j_sub [0, 1, 2] _ rfl (ih v2 u14 hf)
          · replace hf := ieb h17 hf
            refine j_aload_n dX5_readChoices_40 0 rfl ?_
            refine j_iconst dX5_readChoices_41 ?_
            obtain ⟨u16, hu16, hf⟩ := obb hf
            refine j_cVv [pI 3] [] kT_v (bM_mv G) (c5_wrong 3 u hu16) wv5_wrong dv5_wrong rfl ⟨(Nat.le_of_ble_eq_true rfl), (Nat.le_of_ble_eq_true rfl)⟩ (m_recv u) rfl (Nat.le_of_ble_eq_true rfl) dX5_readChoices_42 ⟨Nat.le_refl 0, Nat.le_refl 0⟩ ?_
            refine j_goto 2 dX5_readChoices_45 (by decide) ?_
            exact j_sub [0, 1, 2] _ rfl (ih v2 u16 hf)
        · replace hf := ieb h19 hf
          refine j_aload_n dX5_readChoices_21 0 rfl ?_
          obtain ⟨u18, hu18, hf⟩ := obb hf
          refine j_cVv [] [] kT_v (bM_mv G) (c5_cannot  u hu18) wv5_cannot dv5_cannot rfl ⟨(Nat.le_of_ble_eq_true rfl), (Nat.le_of_ble_eq_true rfl)⟩ (m_recv u) rfl (Nat.le_of_ble_eq_true rfl) dX5_readChoices_22 ⟨Nat.le_refl 0, Nat.le_refl 0⟩ ?_
          refine j_goto 2 dX5_readChoices_25 (by decide) ?_
          exact j_sub [0, 1, 2] _ rfl (ih v2 u18 hf)
theorem c5_readChoices {G : MG} {l : Launch} {r : Mu} (v1 : Int) (u : Mu) (hf : m5_readChoices v1 u = some r) : JM kT (bM G) (aM G) l yX5_readChoices D5_readChoices [pR (some G.1), pI v1] u none r 0 0 := by
  refine j_met (lv0 := [(0, pR (some G.1)), (1, pI v1)]) ⟨pl_X5, rfl, rfl, (Nat.le_of_ble_eq_true rfl), rfl⟩ ?_
  unfold m5_readChoices at hf
  refine j_iconst dX5_readChoices_0 ?_
  refine j_istore_n dX5_readChoices_1 [(2, pI 1), (0, pR (some G.1)), (1, pI v1)] (Nat.le_of_ble_eq_true rfl) rfl ?_
  refine j_sub [1, 2, 0] _ rfl (c5_readChoices_l2 v1 ?_ NN 1 u hf)
  · intro q1 hf
    replace hf := Option.some.inj hf
    subst hf
    exact j_return (bM_mv G) ⟨Nat.le_refl 0, Nat.le_refl 0⟩ rfl dX5_readChoices_137
theorem c5_wantsNumber_b38 {G : MG} {l : Launch} {a : List PV} {r : Int × Mu} (v1 : Int) (u : Mu) (hf : m5_wantsNumber_b38 v1 u = some r) : J5 G l D5_wantsNumber a (some (pI r.1)) r.2 u 38 [(0, pR (some G.1)), (1, pI v1)] [] := by
  unfold m5_wantsNumber_b38 at hf
  refine j_aload_n dX5_wantsNumber_38 0 rfl ?_
  refine j_iconst dX5_wantsNumber_39 ?_
  obtain ⟨u1, hu1, hf⟩ := ob hf
  refine j_cVv [pI 5] [] kT_v (bM_mv G) (c5_wrong 5 u hu1) wv5_wrong dv5_wrong rfl ⟨(Nat.le_of_ble_eq_true rfl), (Nat.le_of_ble_eq_true rfl)⟩ (m_recv u) rfl (Nat.le_of_ble_eq_true rfl) dX5_wantsNumber_40 ⟨Nat.le_refl 0, Nat.le_refl 0⟩ ?_
  refine j_iload_n dX5_wantsNumber_43 1 rfl ?_
  replace hf := Option.some.inj hf
  subst hf
  exact j_ireturn (bM_mv G) ⟨Nat.le_refl 0, Nat.le_refl 0⟩ rfl dX5_wantsNumber_44
theorem c5_wantsNumber {G : MG} {l : Launch} {r : Int × Mu} (v1 : Int) (v2 : Int) (u : Mu) (hf : m5_wantsNumber v1 v2 u = some r) : JM kT (bM G) (aM G) l yX5_wantsNumber D5_wantsNumber [pR (some G.1), pI v1, pI v2] u (some (pI r.1)) r.2 0 0 := by
  refine j_met (lv0 := [(0, pR (some G.1)), (1, pI v1), (2, pI v2)]) ⟨pl_X5, rfl, rfl, (Nat.le_of_ble_eq_true rfl), rfl⟩ ?_
  unfold m5_wantsNumber at hf
  refine j_aload_n dX5_wantsNumber_0 0 rfl ?_
  refine m_geti mf_8 rfl dX5_wantsNumber_1 ?_
  refine j_if_le (w32 (u.1 8)) rfl 9 dX5_wantsNumber_4 (by decide) (fun h6 => ?_) (fun h6 => ?_)
  · replace hf := it h6 hf
    refine j_aload_n dX5_wantsNumber_9 0 rfl ?_
    refine m_geti mf_4 rfl dX5_wantsNumber_10 ?_
    refine j_iconst dX5_wantsNumber_13 ?_
    refine j_icmp_eq (w32 (u.1 4)) 2 rfl rfl 23 dX5_wantsNumber_14 (by decide) (fun h5 => ?_) (fun h5 => ?_)
    · replace hf := it h5 hf
      refine j_aload_n dX5_wantsNumber_23 0 rfl ?_
      refine m_geti mf_7 rfl dX5_wantsNumber_24 ?_
      refine j_istore_n dX5_wantsNumber_27 [(3, pI (u.1 7)), (0, pR (some G.1)), (1, pI v1), (2, pI v2)] (Nat.le_of_ble_eq_true rfl) rfl ?_
      refine j_iload_n dX5_wantsNumber_28 0 rfl ?_
      refine j_iload_n dX5_wantsNumber_29 2 rfl ?_
      refine j_icmp_lt (w32 (u.1 7)) (w32 v1) rfl rfl 38 dX5_wantsNumber_30 (by decide) (fun h3 => ?_) (fun h3 => ?_)
      · replace hf := it h3 hf
        exact j_sub [1, 2] _ rfl (c5_wantsNumber_b38 v1 u hf)
      · replace hf := ie h3 hf
        refine j_iload_n dX5_wantsNumber_33 0 rfl ?_
        refine j_iload_n dX5_wantsNumber_34 3 rfl ?_
        refine j_icmp_le (w32 (u.1 7)) (w32 v2) rfl rfl 45 dX5_wantsNumber_35 (by decide) (fun h2 => ?_) (fun h2 => ?_)
        · replace hf := it h2 hf
          refine j_aload_n dX5_wantsNumber_45 1 rfl ?_
          obtain ⟨u1, hu1, hf⟩ := ob hf
          refine j_cVv [] [] kT_v (bM_mv G) (c5_next  u hu1) wv5_next dv5_next rfl ⟨(Nat.le_of_ble_eq_true rfl), (Nat.le_of_ble_eq_true rfl)⟩ (m_recv u) rfl (Nat.le_of_ble_eq_true rfl) dX5_wantsNumber_46 ⟨Nat.le_refl 0, Nat.le_refl 0⟩ ?_
          refine j_iload_n dX5_wantsNumber_49 0 rfl ?_
          replace hf := Option.some.inj hf
          subst hf
          exact j_ireturn (bM_mv G) ⟨Nat.le_refl 0, Nat.le_refl 0⟩ rfl dX5_wantsNumber_50
        · replace hf := ie h2 hf
          exact j_sub [1, 2] _ rfl (c5_wantsNumber_b38 v1 u hf)
    · replace hf := ie h5 hf
      refine j_aload_n dX5_wantsNumber_17 0 rfl ?_
      obtain ⟨u4, hu4, hf⟩ := ob hf
      refine j_cVv [] [] kT_v (bM_mv G) (c5_cannot  u hu4) wv5_cannot dv5_cannot rfl ⟨(Nat.le_of_ble_eq_true rfl), (Nat.le_of_ble_eq_true rfl)⟩ (m_recv u) rfl (Nat.le_of_ble_eq_true rfl) dX5_wantsNumber_18 ⟨Nat.le_refl 0, Nat.le_refl 0⟩ ?_
      refine j_iload_n dX5_wantsNumber_21 1 rfl ?_
      replace hf := Option.some.inj hf
      subst hf
      exact j_ireturn (bM_mv G) ⟨Nat.le_refl 0, Nat.le_refl 0⟩ rfl dX5_wantsNumber_22
  · replace hf := ie h6 hf
    refine j_iload_n dX5_wantsNumber_7 1 rfl ?_
    replace hf := Option.some.inj hf
    subst hf
    exact j_ireturn (bM_mv G) ⟨Nat.le_refl 0, Nat.le_refl 0⟩ rfl dX5_wantsNumber_8
theorem c5_wantsWord {G : MG} {l : Launch} {r : Mu} (v1 : Int) (u : Mu) (hf : m5_wantsWord v1 u = some r) : JM kT (bM G) (aM G) l yX5_wantsWord D5_wantsWord [pR (some G.1), pI v1] u none r 0 0 := by
  refine j_met (lv0 := [(0, pR (some G.1)), (1, pI v1)]) ⟨pl_X5, rfl, rfl, (Nat.le_of_ble_eq_true rfl), rfl⟩ ?_
  unfold m5_wantsWord at hf
  refine j_aload_n dX5_wantsWord_0 0 rfl ?_
  refine m_geti mf_8 rfl dX5_wantsWord_1 ?_
  refine j_if_le (w32 (u.1 8)) rfl 8 dX5_wantsWord_4 (by decide) (fun h5 => ?_) (fun h5 => ?_)
  · replace hf := it h5 hf
    refine j_aload_n dX5_wantsWord_8 0 rfl ?_
    refine j_iload_n dX5_wantsWord_9 1 rfl ?_
    obtain ⟨x1, hx1, hf⟩ := ob hf
    refine j_cVr [pI v1] [] kT_v (bM_mv G) (c5_isWord v1 u hx1) wv5_isWord dv5_isWord rfl ⟨(Nat.le_of_ble_eq_true rfl), (Nat.le_of_ble_eq_true rfl)⟩ (m_recv u) rfl (Nat.le_of_ble_eq_true rfl) dX5_wantsWord_10 ⟨Nat.le_refl 0, Nat.le_refl 0⟩ ?_
    refine j_if_eq (w32 x1) rfl 23 dX5_wantsWord_13 (by decide) (fun h4 => ?_) (fun h4 => ?_)
    · replace hf := it h4 hf
      refine j_aload_n dX5_wantsWord_23 0 rfl ?_
      obtain ⟨u2, hu2, hf⟩ := ob hf
      refine j_cVv [] [] kT_v (bM_mv G) (c5_cannot  u hu2) wv5_cannot dv5_cannot rfl ⟨(Nat.le_of_ble_eq_true rfl), (Nat.le_of_ble_eq_true rfl)⟩ (m_recv u) rfl (Nat.le_of_ble_eq_true rfl) dX5_wantsWord_24 ⟨Nat.le_refl 0, Nat.le_refl 0⟩ ?_
      replace hf := Option.some.inj hf
      subst hf
      exact j_return (bM_mv G) ⟨Nat.le_refl 0, Nat.le_refl 0⟩ rfl dX5_wantsWord_27
    · replace hf := ie h4 hf
      refine j_aload_n dX5_wantsWord_16 0 rfl ?_
      obtain ⟨u3, hu3, hf⟩ := ob hf
      refine j_cVv [] [] kT_v (bM_mv G) (c5_next  u hu3) wv5_next dv5_next rfl ⟨(Nat.le_of_ble_eq_true rfl), (Nat.le_of_ble_eq_true rfl)⟩ (m_recv u) rfl (Nat.le_of_ble_eq_true rfl) dX5_wantsWord_17 ⟨Nat.le_refl 0, Nat.le_refl 0⟩ ?_
      refine j_goto 27 dX5_wantsWord_20 (by decide) ?_
      replace hf := Option.some.inj hf
      subst hf
      exact j_return (bM_mv G) ⟨Nat.le_refl 0, Nat.le_refl 0⟩ rfl dX5_wantsWord_27
  · replace hf := ie h5 hf
    replace hf := Option.some.inj hf
    subst hf
    exact j_return (bM_mv G) ⟨Nat.le_refl 0, Nat.le_refl 0⟩ rfl dX5_wantsWord_7
theorem c5_readFact_b208 {G : MG} {l : Launch} {a : List PV} {r : Mu} (u : Mu) (hf : m5_readFact_b208 u = some r) : J5 G l D5_readFact a none r u 208 [(0, pR (some G.1))] [] := by
  unfold m5_readFact_b208 at hf
  refine j_aload_n dX5_readFact_208 0 rfl ?_
  refine j_bipush dX5_readFact_209 (by decide) ?_
  obtain ⟨u1, hu1, hf⟩ := ob hf
  refine j_cVv [pI 6] [] kT_v (bM_mv G) (c5_wantsSign 6 u hu1) wv5_wantsSign dv5_wantsSign rfl ⟨(Nat.le_of_ble_eq_true rfl), (Nat.le_of_ble_eq_true rfl)⟩ (m_recv u) rfl (Nat.le_of_ble_eq_true rfl) dX5_readFact_211 ⟨Nat.le_refl 0, Nat.le_refl 0⟩ ?_
  replace hf := Option.some.inj hf
  subst hf
  exact j_return (bM_mv G) ⟨Nat.le_refl 0, Nat.le_refl 0⟩ rfl dX5_readFact_214
theorem c5_readFact {G : MG} {l : Launch} {r : Mu}  (u : Mu) (hf : m5_readFact u = some r) : JM kT (bM G) (aM G) l yX5_readFact D5_readFact [pR (some G.1)] u none r 0 0 := by
  refine j_met (lv0 := [(0, pR (some G.1))]) ⟨pl_X5, rfl, rfl, (Nat.le_of_ble_eq_true rfl), rfl⟩ ?_
  unfold m5_readFact at hf
  refine j_aload_n dX5_readFact_0 0 rfl ?_
  refine j_aload_n dX5_readFact_1 0 rfl ?_
  refine m_geta mf_12 rfl dX5_readFact_2 ?_
  refine j_iconst dX5_readFact_5 ?_
  obtain ⟨x1, hx1, hf⟩ := ob hf
  refine m_iald mr_12 hx1 dX5_readFact_6 ?_
  refine j_bipush dX5_readFact_7 (by decide) ?_
  obtain ⟨u2, hu2, hf⟩ := ob hf
  refine j_cVv [pI x1, pI 8] [] kT_v (bM_mv G) (c5_newName x1 8 u hu2) wv5_newName dv5_newName rfl ⟨(Nat.le_of_ble_eq_true rfl), (Nat.le_of_ble_eq_true rfl)⟩ (m_recv u) rfl (Nat.le_of_ble_eq_true rfl) dX5_readFact_9 ⟨Nat.le_refl 0, Nat.le_refl 0⟩ ?_
  refine j_aload_n dX5_readFact_12 0 rfl ?_
  refine m_geti mf_8 rfl dX5_readFact_13 ?_
  refine j_if_le (w32 (u2.1 8)) rfl 20 dX5_readFact_16 (by decide) (fun h34 => ?_) (fun h34 => ?_)
  · replace hf := it h34 hf
    refine j_aload_n dX5_readFact_20 0 rfl ?_
    refine m_geta mf_12 rfl dX5_readFact_21 ?_
    refine j_iconst dX5_readFact_24 ?_
    obtain ⟨x3, hx3, hf⟩ := ob hf
    refine m_iald mr_12 hx3 dX5_readFact_25 ?_
    refine j_istore_n dX5_readFact_26 [(1, pI x3), (0, pR (some G.1))] (Nat.le_of_ble_eq_true rfl) rfl ?_
    refine j_aload_n dX5_readFact_27 1 rfl ?_
    refine m_geta mf_13 rfl dX5_readFact_28 ?_
    refine j_iload_n dX5_readFact_31 0 rfl ?_
    refine j_aload_n dX5_readFact_32 1 rfl ?_
    refine m_getl mf_6 rfl dX5_readFact_33 ?_
    obtain ⟨u4, hu4, hf⟩ := ob hf
    refine m_last mr_13 hu4 dX5_readFact_36 ?_
    refine j_aload_n dX5_readFact_37 1 rfl ?_
    refine m_geta mf_15 rfl dX5_readFact_38 ?_
    refine j_iload_n dX5_readFact_41 0 rfl ?_
    refine j_iconst dX5_readFact_42 ?_
    obtain ⟨u5, hu5, hf⟩ := ob hf
    refine m_iast mr_15 hu5 dX5_readFact_43 ?_
    refine j_aload_n dX5_readFact_44 1 rfl ?_
    refine m_geta mf_12 rfl dX5_readFact_45 ?_
    refine j_iconst dX5_readFact_48 ?_
    refine j_dup2_11 dX5_readFact_49 rfl rfl ?_
    obtain ⟨x6, hx6, hf⟩ := ob hf
    refine m_iald mr_12 hx6 dX5_readFact_50 ?_
    refine j_iconst dX5_readFact_51 ?_
    refine j_iadd dX5_readFact_52 ?_
    obtain ⟨u7, hu7, hf⟩ := ob hf
    refine m_iast mr_12 hu7 dX5_readFact_53 ?_
    refine j_aload_n dX5_readFact_54 1 rfl ?_
    obtain ⟨u8, hu8, hf⟩ := ob hf
    refine j_cVv [] [] kT_v (bM_mv G) (c5_next  u7 hu8) wv5_next dv5_next rfl ⟨(Nat.le_of_ble_eq_true rfl), (Nat.le_of_ble_eq_true rfl)⟩ (m_recv u7) rfl (Nat.le_of_ble_eq_true rfl) dX5_readFact_55 ⟨Nat.le_refl 0, Nat.le_refl 0⟩ ?_
    refine j_aload_n dX5_readFact_58 1 rfl ?_
    refine j_iconst dX5_readFact_59 ?_
    obtain ⟨x9, hx9, hf⟩ := ob hf
    refine j_cVr [pI 1] [] kT_v (bM_mv G) (c5_isWord 1 u8 hx9) wv5_isWord dv5_isWord rfl ⟨(Nat.le_of_ble_eq_true rfl), (Nat.le_of_ble_eq_true rfl)⟩ (m_recv u8) rfl (Nat.le_of_ble_eq_true rfl) dX5_readFact_60 ⟨Nat.le_refl 0, Nat.le_refl 0⟩ ?_
    refine j_if_eq (w32 x9) rfl 94 dX5_readFact_63 (by decide) (fun h33 => ?_) (fun h33 => ?_)
    · replace hf := it h33 hf
      refine j_aload_n dX5_readFact_94 1 rfl ?_
      refine j_iconst dX5_readFact_95 ?_
      obtain ⟨x10, hx10, hf⟩ := ob hf
      refine j_cVr [pI 2] [] kT_v (bM_mv G) (c5_isWord 2 u8 hx10) wv5_isWord dv5_isWord rfl ⟨(Nat.le_of_ble_eq_true rfl), (Nat.le_of_ble_eq_true rfl)⟩ (m_recv u8) rfl (Nat.le_of_ble_eq_true rfl) dX5_readFact_96 ⟨Nat.le_refl 0, Nat.le_refl 0⟩ ?_
      refine j_if_eq (w32 x10) rfl 142 dX5_readFact_99 (by decide) (fun h28 => ?_) (fun h28 => ?_)
      · replace hf := it h28 hf
        refine j_aload_n dX5_readFact_142 1 rfl ?_
        refine j_iconst dX5_readFact_143 ?_
        obtain ⟨x11, hx11, hf⟩ := ob hf
        refine j_cVr [pI 3] [] kT_v (bM_mv G) (c5_isWord 3 u8 hx11) wv5_isWord dv5_isWord rfl ⟨(Nat.le_of_ble_eq_true rfl), (Nat.le_of_ble_eq_true rfl)⟩ (m_recv u8) rfl (Nat.le_of_ble_eq_true rfl) dX5_readFact_144 ⟨Nat.le_refl 0, Nat.le_refl 0⟩ ?_
        refine j_if_eq (w32 x11) rfl 204 dX5_readFact_147 (by decide) (fun h21 => ?_) (fun h21 => ?_)
        · replace hf := it h21 hf
          refine j_aload_n dX5_readFact_204 1 rfl ?_
          obtain ⟨u12, hu12, hf⟩ := ob hf
          refine j_cVv [] [] kT_v (bM_mv G) (c5_cannot  u8 hu12) wv5_cannot dv5_cannot rfl ⟨(Nat.le_of_ble_eq_true rfl), (Nat.le_of_ble_eq_true rfl)⟩ (m_recv u8) rfl (Nat.le_of_ble_eq_true rfl) dX5_readFact_205 ⟨Nat.le_refl 0, Nat.le_refl 0⟩ ?_
          exact j_sub [1] _ rfl (c5_readFact_b208 u12 hf)
        · replace hf := ie h21 hf
          refine j_aload_n dX5_readFact_150 1 rfl ?_
          refine m_geta mf_14 rfl dX5_readFact_151 ?_
          refine j_iload_n dX5_readFact_154 0 rfl ?_
          refine j_iconst dX5_readFact_155 ?_
          obtain ⟨u13, hu13, hf⟩ := ob hf
          refine m_iast mr_14 hu13 dX5_readFact_156 ?_
          refine j_aload_n dX5_readFact_157 1 rfl ?_
          obtain ⟨u14, hu14, hf⟩ := ob hf
          refine j_cVv [] [] kT_v (bM_mv G) (c5_next  u13 hu14) wv5_next dv5_next rfl ⟨(Nat.le_of_ble_eq_true rfl), (Nat.le_of_ble_eq_true rfl)⟩ (m_recv u13) rfl (Nat.le_of_ble_eq_true rfl) dX5_readFact_158 ⟨Nat.le_refl 0, Nat.le_refl 0⟩ ?_
          refine j_aload_n dX5_readFact_161 1 rfl ?_
          refine m_geta mf_17 rfl dX5_readFact_162 ?_
          refine j_iload_n dX5_readFact_165 0 rfl ?_
          refine j_aload_n dX5_readFact_166 1 rfl ?_
          refine j_iconst dX5_readFact_167 ?_
          refine j_ldcw (z := 999999999) q2274 (by decide) dX5_readFact_168 ?_
          obtain ⟨q15, hq15, hf⟩ := ob hf
          refine j_cVr [pI 0, pI 999999999] [pI x3, pR (some (G.2.1 17))] kT_v (bM_mv G) (c5_wantsNumber 0 999999999 u14 hq15) wv5_wantsNumber dv5_wantsNumber rfl ⟨(Nat.le_of_ble_eq_true rfl), (Nat.le_of_ble_eq_true rfl)⟩ (m_recv u14) rfl (Nat.le_of_ble_eq_true rfl) dX5_readFact_171 ⟨Nat.le_refl 0, Nat.le_refl 0⟩ ?_
          obtain ⟨u16, hu16, hf⟩ := ob hf
          refine m_iast mr_17 hu16 dX5_readFact_174 ?_
          refine j_aload_n dX5_readFact_175 1 rfl ?_
          refine j_iconst dX5_readFact_176 ?_
          obtain ⟨u17, hu17, hf⟩ := ob hf
          refine j_cVv [pI 4] [] kT_v (bM_mv G) (c5_wantsWord 4 u16 hu17) wv5_wantsWord dv5_wantsWord rfl ⟨(Nat.le_of_ble_eq_true rfl), (Nat.le_of_ble_eq_true rfl)⟩ (m_recv u16) rfl (Nat.le_of_ble_eq_true rfl) dX5_readFact_177 ⟨Nat.le_refl 0, Nat.le_refl 0⟩ ?_
          refine j_aload_n dX5_readFact_180 1 rfl ?_
          refine m_geta mf_18 rfl dX5_readFact_181 ?_
          refine j_iload_n dX5_readFact_184 0 rfl ?_
          refine j_aload_n dX5_readFact_185 1 rfl ?_
          refine j_aload_n dX5_readFact_186 1 rfl ?_
          refine m_geta mf_17 rfl dX5_readFact_187 ?_
          refine j_iload_n dX5_readFact_190 0 rfl ?_
          obtain ⟨x18, hx18, hf⟩ := ob hf
          refine m_iald mr_17 hx18 dX5_readFact_191 ?_
          refine j_iconst dX5_readFact_192 ?_
          refine j_iadd dX5_readFact_193 ?_
          refine j_ldcw (z := 999999999) q2274 (by decide) dX5_readFact_194 ?_
          obtain ⟨q19, hq19, hf⟩ := ob hf
          refine j_cVr [pI (x18 + 1), pI 999999999] [pI x3, pR (some (G.2.1 18))] kT_v (bM_mv G) (c5_wantsNumber (x18 + 1) 999999999 u17 hq19) wv5_wantsNumber dv5_wantsNumber rfl ⟨(Nat.le_of_ble_eq_true rfl), (Nat.le_of_ble_eq_true rfl)⟩ (m_recv u17) rfl (Nat.le_of_ble_eq_true rfl) dX5_readFact_197 ⟨Nat.le_refl 0, Nat.le_refl 0⟩ ?_
          obtain ⟨u20, hu20, hf⟩ := ob hf
          refine m_iast mr_18 hu20 dX5_readFact_200 ?_
          refine j_goto 208 dX5_readFact_201 (by decide) ?_
          exact j_sub [1] _ rfl (c5_readFact_b208 u20 hf)
      · replace hf := ie h28 hf
        refine j_aload_n dX5_readFact_102 1 rfl ?_
        refine m_geta mf_14 rfl dX5_readFact_103 ?_
        refine j_iload_n dX5_readFact_106 0 rfl ?_
        refine j_iconst dX5_readFact_107 ?_
        obtain ⟨u22, hu22, hf⟩ := ob hf
        refine m_iast mr_14 hu22 dX5_readFact_108 ?_
        refine j_aload_n dX5_readFact_109 1 rfl ?_
        obtain ⟨u23, hu23, hf⟩ := ob hf
        refine j_cVv [] [] kT_v (bM_mv G) (c5_next  u22 hu23) wv5_next dv5_next rfl ⟨(Nat.le_of_ble_eq_true rfl), (Nat.le_of_ble_eq_true rfl)⟩ (m_recv u22) rfl (Nat.le_of_ble_eq_true rfl) dX5_readFact_110 ⟨Nat.le_refl 0, Nat.le_refl 0⟩ ?_
        refine j_aload_n dX5_readFact_113 1 rfl ?_
        refine j_iload_n dX5_readFact_114 0 rfl ?_
        obtain ⟨u24, hu24, hf⟩ := ob hf
        refine j_cVv [pI x3] [] kT_v (bM_mv G) (c5_readChoices x3 u23 hu24) wv5_readChoices dv5_readChoices rfl ⟨(Nat.le_of_ble_eq_true rfl), (Nat.le_of_ble_eq_true rfl)⟩ (m_recv u23) rfl (Nat.le_of_ble_eq_true rfl) dX5_readFact_115 ⟨Nat.le_refl 0, Nat.le_refl 0⟩ ?_
        refine j_aload_n dX5_readFact_118 1 rfl ?_
        refine m_geta mf_17 rfl dX5_readFact_119 ?_
        refine j_iload_n dX5_readFact_122 0 rfl ?_
        refine j_iconst dX5_readFact_123 ?_
        obtain ⟨u25, hu25, hf⟩ := ob hf
        refine m_iast mr_17 hu25 dX5_readFact_124 ?_
        refine j_aload_n dX5_readFact_125 1 rfl ?_
        refine m_geta mf_18 rfl dX5_readFact_126 ?_
        refine j_iload_n dX5_readFact_129 0 rfl ?_
        refine j_aload_n dX5_readFact_130 1 rfl ?_
        refine m_geta mf_15 rfl dX5_readFact_131 ?_
        refine j_iload_n dX5_readFact_134 0 rfl ?_
        obtain ⟨x26, hx26, hf⟩ := ob hf
        refine m_iald mr_15 hx26 dX5_readFact_135 ?_
        refine j_iconst dX5_readFact_136 ?_
        refine j_isub dX5_readFact_137 ?_
        obtain ⟨u27, hu27, hf⟩ := ob hf
        refine m_iast mr_18 hu27 dX5_readFact_138 ?_
        refine j_goto 208 dX5_readFact_139 (by decide) ?_
        exact j_sub [1] _ rfl (c5_readFact_b208 u27 hf)
    · replace hf := ie h33 hf
      refine j_aload_n dX5_readFact_66 1 rfl ?_
      refine m_geta mf_14 rfl dX5_readFact_67 ?_
      refine j_iload_n dX5_readFact_70 0 rfl ?_
      refine j_iconst dX5_readFact_71 ?_
      obtain ⟨u29, hu29, hf⟩ := ob hf
      refine m_iast mr_14 hu29 dX5_readFact_72 ?_
      refine j_aload_n dX5_readFact_73 1 rfl ?_
      refine m_geta mf_17 rfl dX5_readFact_74 ?_
      refine j_iload_n dX5_readFact_77 0 rfl ?_
      refine j_iconst dX5_readFact_78 ?_
      obtain ⟨u30, hu30, hf⟩ := ob hf
      refine m_iast mr_17 hu30 dX5_readFact_79 ?_
      refine j_aload_n dX5_readFact_80 1 rfl ?_
      refine m_geta mf_18 rfl dX5_readFact_81 ?_
      refine j_iload_n dX5_readFact_84 0 rfl ?_
      refine j_iconst dX5_readFact_85 ?_
      obtain ⟨u31, hu31, hf⟩ := ob hf
      refine m_iast mr_18 hu31 dX5_readFact_86 ?_
      refine j_aload_n dX5_readFact_87 1 rfl ?_
      obtain ⟨u32, hu32, hf⟩ := ob hf
      refine j_cVv [] [] kT_v (bM_mv G) (c5_next  u31 hu32) wv5_next dv5_next rfl ⟨(Nat.le_of_ble_eq_true rfl), (Nat.le_of_ble_eq_true rfl)⟩ (m_recv u31) rfl (Nat.le_of_ble_eq_true rfl) dX5_readFact_88 ⟨Nat.le_refl 0, Nat.le_refl 0⟩ ?_
      refine j_goto 208 dX5_readFact_91 (by decide) ?_
      exact j_sub [1] _ rfl (c5_readFact_b208 u32 hf)
  · replace hf := ie h34 hf
    replace hf := Option.some.inj hf
    subst hf
    exact j_return (bM_mv G) ⟨Nat.le_refl 0, Nat.le_refl 0⟩ rfl dX5_readFact_19
theorem c5_readMean {G : MG} {l : Launch} {r : Mu}  (u : Mu) (hf : m5_readMean u = some r) : JM kT (bM G) (aM G) l yX5_readMean D5_readMean [pR (some G.1)] u none r 0 0 := by
  refine j_met (lv0 := [(0, pR (some G.1))]) ⟨pl_X5, rfl, rfl, (Nat.le_of_ble_eq_true rfl), rfl⟩ ?_
  unfold m5_readMean at hf
  refine j_aload_n dX5_readMean_0 0 rfl ?_
  refine j_aload_n dX5_readMean_1 0 rfl ?_
  refine m_geta mf_19 rfl dX5_readMean_2 ?_
  refine j_iconst dX5_readMean_5 ?_
  obtain ⟨x1, hx1, hf⟩ := ob hf
  refine m_iald mr_19 hx1 dX5_readMean_6 ?_
  refine j_bipush dX5_readMean_7 (by decide) ?_
  obtain ⟨u2, hu2, hf⟩ := ob hf
  refine j_cVv [pI x1, pI 12] [] kT_v (bM_mv G) (c5_newName x1 12 u hu2) wv5_newName dv5_newName rfl ⟨(Nat.le_of_ble_eq_true rfl), (Nat.le_of_ble_eq_true rfl)⟩ (m_recv u) rfl (Nat.le_of_ble_eq_true rfl) dX5_readMean_9 ⟨Nat.le_refl 0, Nat.le_refl 0⟩ ?_
  refine j_aload_n dX5_readMean_12 0 rfl ?_
  refine m_geti mf_8 rfl dX5_readMean_13 ?_
  refine j_if_le (w32 (u2.1 8)) rfl 20 dX5_readMean_16 (by decide) (fun h13 => ?_) (fun h13 => ?_)
  · replace hf := it h13 hf
    refine j_aload_n dX5_readMean_20 0 rfl ?_
    refine m_geta mf_19 rfl dX5_readMean_21 ?_
    refine j_iconst dX5_readMean_24 ?_
    obtain ⟨x3, hx3, hf⟩ := ob hf
    refine m_iald mr_19 hx3 dX5_readMean_25 ?_
    refine j_istore_n dX5_readMean_26 [(1, pI x3), (0, pR (some G.1))] (Nat.le_of_ble_eq_true rfl) rfl ?_
    refine j_aload_n dX5_readMean_27 1 rfl ?_
    refine m_geta mf_20 rfl dX5_readMean_28 ?_
    refine j_iload_n dX5_readMean_31 0 rfl ?_
    refine j_aload_n dX5_readMean_32 1 rfl ?_
    refine m_getl mf_6 rfl dX5_readMean_33 ?_
    obtain ⟨u4, hu4, hf⟩ := ob hf
    refine m_last mr_20 hu4 dX5_readMean_36 ?_
    refine j_aload_n dX5_readMean_37 1 rfl ?_
    obtain ⟨u5, hu5, hf⟩ := ob hf
    refine j_cVv [] [] kT_v (bM_mv G) (c5_next  u4 hu5) wv5_next dv5_next rfl ⟨(Nat.le_of_ble_eq_true rfl), (Nat.le_of_ble_eq_true rfl)⟩ (m_recv u4) rfl (Nat.le_of_ble_eq_true rfl) dX5_readMean_38 ⟨Nat.le_refl 0, Nat.le_refl 0⟩ ?_
    refine j_aload_n dX5_readMean_41 1 rfl ?_
    refine j_iconst dX5_readMean_42 ?_
    obtain ⟨u6, hu6, hf⟩ := ob hf
    refine j_cVv [pI 0] [] kT_v (bM_mv G) (c5_wantsSign 0 u5 hu6) wv5_wantsSign dv5_wantsSign rfl ⟨(Nat.le_of_ble_eq_true rfl), (Nat.le_of_ble_eq_true rfl)⟩ (m_recv u5) rfl (Nat.le_of_ble_eq_true rfl) dX5_readMean_43 ⟨Nat.le_refl 0, Nat.le_refl 0⟩ ?_
    refine j_aload_n dX5_readMean_46 1 rfl ?_
    refine m_geta mf_21 rfl dX5_readMean_47 ?_
    refine j_iload_n dX5_readMean_50 0 rfl ?_
    refine j_aload_n dX5_readMean_51 1 rfl ?_
    refine m_geti mf_46 rfl dX5_readMean_52 ?_
    obtain ⟨u7, hu7, hf⟩ := ob hf
    refine m_iast mr_21 hu7 dX5_readMean_55 ?_
    refine j_aload_n dX5_readMean_56 1 rfl ?_
    obtain ⟨u8, hu8, hf⟩ := ob hf
    refine j_cVv [] [] kT_v (bM_mv G) (c5_cond  u7 hu8) wv5_cond dv5_cond rfl ⟨(Nat.le_of_ble_eq_true rfl), (Nat.le_of_ble_eq_true rfl)⟩ (m_recv u7) rfl (Nat.le_of_ble_eq_true rfl) dX5_readMean_57 ⟨Nat.le_refl 0, Nat.le_refl 0⟩ ?_
    refine j_aload_n dX5_readMean_60 1 rfl ?_
    refine m_geta mf_22 rfl dX5_readMean_61 ?_
    refine j_iload_n dX5_readMean_64 0 rfl ?_
    refine j_aload_n dX5_readMean_65 1 rfl ?_
    refine m_geti mf_46 rfl dX5_readMean_66 ?_
    obtain ⟨u9, hu9, hf⟩ := ob hf
    refine m_iast mr_22 hu9 dX5_readMean_69 ?_
    refine j_aload_n dX5_readMean_70 1 rfl ?_
    refine m_geta mf_19 rfl dX5_readMean_71 ?_
    refine j_iconst dX5_readMean_74 ?_
    refine j_dup2_11 dX5_readMean_75 rfl rfl ?_
    obtain ⟨x10, hx10, hf⟩ := ob hf
    refine m_iald mr_19 hx10 dX5_readMean_76 ?_
    refine j_iconst dX5_readMean_77 ?_
    refine j_iadd dX5_readMean_78 ?_
    obtain ⟨u11, hu11, hf⟩ := ob hf
    refine m_iast mr_19 hu11 dX5_readMean_79 ?_
    refine j_aload_n dX5_readMean_80 1 rfl ?_
    refine j_bipush dX5_readMean_81 (by decide) ?_
    obtain ⟨u12, hu12, hf⟩ := ob hf
    refine j_cVv [pI 6] [] kT_v (bM_mv G) (c5_wantsSign 6 u11 hu12) wv5_wantsSign dv5_wantsSign rfl ⟨(Nat.le_of_ble_eq_true rfl), (Nat.le_of_ble_eq_true rfl)⟩ (m_recv u11) rfl (Nat.le_of_ble_eq_true rfl) dX5_readMean_83 ⟨Nat.le_refl 0, Nat.le_refl 0⟩ ?_
    replace hf := Option.some.inj hf
    subst hf
    exact j_return (bM_mv G) ⟨Nat.le_refl 0, Nat.le_refl 0⟩ rfl dX5_readMean_86
  · replace hf := ie h13 hf
    replace hf := Option.some.inj hf
    subst hf
    exact j_return (bM_mv G) ⟨Nat.le_refl 0, Nat.le_refl 0⟩ rfl dX5_readMean_19
theorem c5_readSum {G : MG} {l : Launch} {r : Mu} (v1 : Int) (v2 : Int) (u : Mu) (hf : m5_readSum v1 v2 u = some r) : JM kT (bM G) (aM G) l yX5_readSum D5_readSum [pR (some G.1), pI v1, pI v2] u none r 0 0 := by
  refine j_met (lv0 := [(0, pR (some G.1)), (1, pI v1), (2, pI v2)]) ⟨pl_X5, rfl, rfl, (Nat.le_of_ble_eq_true rfl), rfl⟩ ?_
  unfold m5_readSum at hf
  refine j_aload_n dX5_readSum_0 0 rfl ?_
  refine m_geta mf_32 rfl dX5_readSum_1 ?_
  refine j_iload_n dX5_readSum_4 1 rfl ?_
  obtain ⟨x1, hx1, hf⟩ := ob hf
  refine m_iald mr_32 hx1 dX5_readSum_5 ?_
  refine j_bipush dX5_readSum_6 (by decide) ?_
  refine j_icmp_eq (w32 x1) (-3) rfl rfl 18 dX5_readSum_8 (by decide) (fun h6 => ?_) (fun h6 => ?_)
  · replace hf := it h6 hf
    refine j_aload_n dX5_readSum_18 0 rfl ?_
    refine m_geta mf_32 rfl dX5_readSum_19 ?_
    refine j_iload_n dX5_readSum_22 1 rfl ?_
    refine j_iload_n dX5_readSum_23 2 rfl ?_
    obtain ⟨u2, hu2, hf⟩ := ob hf
    refine m_iast mr_32 hu2 dX5_readSum_24 ?_
    refine j_aload_n dX5_readSum_25 0 rfl ?_
    obtain ⟨u3, hu3, hf⟩ := ob hf
    refine j_cVv [] [] kT_v (bM_mv G) (c5_next  u2 hu3) wv5_next dv5_next rfl ⟨(Nat.le_of_ble_eq_true rfl), (Nat.le_of_ble_eq_true rfl)⟩ (m_recv u2) rfl (Nat.le_of_ble_eq_true rfl) dX5_readSum_26 ⟨Nat.le_refl 0, Nat.le_refl 0⟩ ?_
    refine j_aload_n dX5_readSum_29 0 rfl ?_
    refine j_bipush dX5_readSum_30 (by decide) ?_
    obtain ⟨u4, hu4, hf⟩ := ob hf
    refine j_cVv [pI 6] [] kT_v (bM_mv G) (c5_wantsSign 6 u3 hu4) wv5_wantsSign dv5_wantsSign rfl ⟨(Nat.le_of_ble_eq_true rfl), (Nat.le_of_ble_eq_true rfl)⟩ (m_recv u3) rfl (Nat.le_of_ble_eq_true rfl) dX5_readSum_32 ⟨Nat.le_refl 0, Nat.le_refl 0⟩ ?_
    replace hf := Option.some.inj hf
    subst hf
    exact j_return (bM_mv G) ⟨Nat.le_refl 0, Nat.le_refl 0⟩ rfl dX5_readSum_35
  · replace hf := ie h6 hf
    refine j_aload_n dX5_readSum_11 0 rfl ?_
    refine j_bipush dX5_readSum_12 (by decide) ?_
    obtain ⟨u5, hu5, hf⟩ := ob hf
    refine j_cVv [pI 6] [] kT_v (bM_mv G) (c5_wrong 6 u hu5) wv5_wrong dv5_wrong rfl ⟨(Nat.le_of_ble_eq_true rfl), (Nat.le_of_ble_eq_true rfl)⟩ (m_recv u) rfl (Nat.le_of_ble_eq_true rfl) dX5_readSum_14 ⟨Nat.le_refl 0, Nat.le_refl 0⟩ ?_
    replace hf := Option.some.inj hf
    subst hf
    exact j_return (bM_mv G) ⟨Nat.le_refl 0, Nat.le_refl 0⟩ rfl dX5_readSum_17
theorem c5_readMost_b61 {G : MG} {l : Launch} {a : List PV} {r : Mu} (v1 : Int) (s0 : Int) (u : Mu) (hf : m5_readMost_b61 v1 s0 u = some r) : J5 G l D5_readMost a none r u 61 [(0, pR (some G.1)), (1, pI v1)] [pI s0] := by
  unfold m5_readMost_b61 at hf
  refine j_istore_n dX5_readMost_61 [(2, pI s0), (0, pR (some G.1)), (1, pI v1)] (Nat.le_of_ble_eq_true rfl) rfl ?_
  refine j_iload_n dX5_readMost_62 0 rfl ?_
  refine j_if_ge (w32 s0) rfl 71 dX5_readMost_63 (by decide) (fun h3 => ?_) (fun h3 => ?_)
  · replace hf := it h3 hf
    refine j_aload_n dX5_readMost_71 1 rfl ?_
    refine j_iload_n dX5_readMost_72 0 rfl ?_
    refine j_iload_n dX5_readMost_73 2 rfl ?_
    obtain ⟨u1, hu1, hf⟩ := ob hf
    refine j_cVv [pI s0, pI v1] [] kT_v (bM_mv G) (c5_readSum s0 v1 u hu1) wv5_readSum dv5_readSum rfl ⟨(Nat.le_of_ble_eq_true rfl), (Nat.le_of_ble_eq_true rfl)⟩ (m_recv u) rfl (Nat.le_of_ble_eq_true rfl) dX5_readMost_74 ⟨Nat.le_refl 0, Nat.le_refl 0⟩ ?_
    replace hf := Option.some.inj hf
    subst hf
    exact j_return (bM_mv G) ⟨Nat.le_refl 0, Nat.le_refl 0⟩ rfl dX5_readMost_77
  · replace hf := ie h3 hf
    refine j_aload_n dX5_readMost_66 1 rfl ?_
    obtain ⟨u2, hu2, hf⟩ := ob hf
    refine j_cVv [] [] kT_v (bM_mv G) (c5_cannot  u hu2) wv5_cannot dv5_cannot rfl ⟨(Nat.le_of_ble_eq_true rfl), (Nat.le_of_ble_eq_true rfl)⟩ (m_recv u) rfl (Nat.le_of_ble_eq_true rfl) dX5_readMost_67 ⟨Nat.le_refl 0, Nat.le_refl 0⟩ ?_
    replace hf := Option.some.inj hf
    subst hf
    exact j_return (bM_mv G) ⟨Nat.le_refl 0, Nat.le_refl 0⟩ rfl dX5_readMost_70
theorem c5_readMost {G : MG} {l : Launch} {r : Mu}  (u : Mu) (hf : m5_readMost u = some r) : JM kT (bM G) (aM G) l yX5_readMost D5_readMost [pR (some G.1)] u none r 0 0 := by
  refine j_met (lv0 := [(0, pR (some G.1))]) ⟨pl_X5, rfl, rfl, (Nat.le_of_ble_eq_true rfl), rfl⟩ ?_
  unfold m5_readMost at hf
  refine j_aload_n dX5_readMost_0 0 rfl ?_
  obtain ⟨u1, hu1, hf⟩ := ob hf
  refine j_cVv [] [] kT_v (bM_mv G) (c5_next  u hu1) wv5_next dv5_next rfl ⟨(Nat.le_of_ble_eq_true rfl), (Nat.le_of_ble_eq_true rfl)⟩ (m_recv u) rfl (Nat.le_of_ble_eq_true rfl) dX5_readMost_1 ⟨Nat.le_refl 0, Nat.le_refl 0⟩ ?_
  refine j_aload_n dX5_readMost_4 0 rfl ?_
  refine j_iconst dX5_readMost_5 ?_
  refine j_ldcw (z := 99999999) q2327 (by decide) dX5_readMost_6 ?_
  obtain ⟨q2, hq2, hf⟩ := ob hf
  refine j_cVr [pI 0, pI 99999999] [] kT_v (bM_mv G) (c5_wantsNumber 0 99999999 u1 hq2) wv5_wantsNumber dv5_wantsNumber rfl ⟨(Nat.le_of_ble_eq_true rfl), (Nat.le_of_ble_eq_true rfl)⟩ (m_recv u1) rfl (Nat.le_of_ble_eq_true rfl) dX5_readMost_9 ⟨Nat.le_refl 0, Nat.le_refl 0⟩ ?_
  refine j_istore_n dX5_readMost_12 [(1, pI q2.1), (0, pR (some G.1))] (Nat.le_of_ble_eq_true rfl) rfl ?_
  refine j_aload_n dX5_readMost_13 1 rfl ?_
  refine m_geti mf_8 rfl dX5_readMost_14 ?_
  refine j_if_le (w32 (q2.2.1 8)) rfl 21 dX5_readMost_17 (by decide) (fun h9 => ?_) (fun h9 => ?_)
  · replace hf := it h9 hf
    refine j_aload_n dX5_readMost_21 1 rfl ?_
    refine j_bipush dX5_readMost_22 (by decide) ?_
    obtain ⟨x3, hx3, hf⟩ := ob hf
    refine j_cVr [pI 12] [] kT_v (bM_mv G) (c5_isWord 12 q2.2 hx3) wv5_isWord dv5_isWord rfl ⟨(Nat.le_of_ble_eq_true rfl), (Nat.le_of_ble_eq_true rfl)⟩ (m_recv q2.2) rfl (Nat.le_of_ble_eq_true rfl) dX5_readMost_24 ⟨Nat.le_refl 0, Nat.le_refl 0⟩ ?_
    refine j_if_eq (w32 x3) rfl 34 dX5_readMost_27 (by decide) (fun h8 => ?_) (fun h8 => ?_)
    · replace hf := it h8 hf
      refine j_aload_n dX5_readMost_34 1 rfl ?_
      refine j_bipush dX5_readMost_35 (by decide) ?_
      obtain ⟨x4, hx4, hf⟩ := ob hf
      refine j_cVr [pI 13] [] kT_v (bM_mv G) (c5_isWord 13 q2.2 hx4) wv5_isWord dv5_isWord rfl ⟨(Nat.le_of_ble_eq_true rfl), (Nat.le_of_ble_eq_true rfl)⟩ (m_recv q2.2) rfl (Nat.le_of_ble_eq_true rfl) dX5_readMost_37 ⟨Nat.le_refl 0, Nat.le_refl 0⟩ ?_
      refine j_if_eq (w32 x4) rfl 47 dX5_readMost_40 (by decide) (fun h7 => ?_) (fun h7 => ?_)
      · replace hf := it h7 hf
        refine j_aload_n dX5_readMost_47 1 rfl ?_
        refine j_bipush dX5_readMost_48 (by decide) ?_
        obtain ⟨x5, hx5, hf⟩ := ob hf
        refine j_cVr [pI 14] [] kT_v (bM_mv G) (c5_isWord 14 q2.2 hx5) wv5_isWord dv5_isWord rfl ⟨(Nat.le_of_ble_eq_true rfl), (Nat.le_of_ble_eq_true rfl)⟩ (m_recv q2.2) rfl (Nat.le_of_ble_eq_true rfl) dX5_readMost_50 ⟨Nat.le_refl 0, Nat.le_refl 0⟩ ?_
        refine j_if_eq (w32 x5) rfl 60 dX5_readMost_53 (by decide) (fun h6 => ?_) (fun h6 => ?_)
        · replace hf := it h6 hf
          refine j_iconst dX5_readMost_60 ?_
          exact j_sub [1, 0] _ rfl (c5_readMost_b61 q2.1 (-1) q2.2 hf)
        · replace hf := ie h6 hf
          refine j_iconst dX5_readMost_56 ?_
          refine j_goto 61 dX5_readMost_57 (by decide) ?_
          exact j_sub [1, 0] _ rfl (c5_readMost_b61 q2.1 4 q2.2 hf)
      · replace hf := ie h7 hf
        refine j_iconst dX5_readMost_43 ?_
        refine j_goto 61 dX5_readMost_44 (by decide) ?_
        exact j_sub [1, 0] _ rfl (c5_readMost_b61 q2.1 3 q2.2 hf)
    · replace hf := ie h8 hf
      refine j_iconst dX5_readMost_30 ?_
      refine j_goto 61 dX5_readMost_31 (by decide) ?_
      exact j_sub [1, 0] _ rfl (c5_readMost_b61 q2.1 2 q2.2 hf)
  · replace hf := ie h9 hf
    replace hf := Option.some.inj hf
    subst hf
    exact j_return (bM_mv G) ⟨Nat.le_refl 0, Nat.le_refl 0⟩ rfl dX5_readMost_20
theorem c5_readPrice_b54 {G : MG} {l : Launch} {a : List PV} {r : Mu} {Kf : Int → Option (Mu)} {v1 : Int} {v2 : Int} {u : Mu} (kh : Int → Int → Option (Int)) (hkh : ∀ (z3 : Int) (z4 : Int), ((kh z3 z4).bind Kf = some r) → J5 G l D5_readPrice a none r u 19 [(0, pR (some G.1)), (1, pI v1), (2, pI v2), (3, pI z3), (4, pI z4)] []) (hK0 : ∀ q : Int, Kf q = some r → J5 G l D5_readPrice a none r u 62 [(0, pR (some G.1)), (1, pI v1), (2, pI v2), (3, pI q)] []) (v4 : Int) (s0 : Int) (s1 : Int) (hf : (m5_readPrice_b54 kh v1 v2 v4 s0 s1 u).bind Kf = some r) : J5 G l D5_readPrice a none r u 54 [(0, pR (some G.1)), (1, pI v1), (2, pI v2), (4, pI v4)] [pI s1, pI s0] := by
  unfold m5_readPrice_b54 at hf
  refine j_iadd dX5_readPrice_54 ?_
  refine j_istore_n dX5_readPrice_55 [(3, pI (s0 + s1)), (0, pR (some G.1)), (1, pI v1), (2, pI v2), (4, pI v4)] (Nat.le_of_ble_eq_true rfl) rfl ?_
  refine j_iinc dX5_readPrice_56 4 rfl [(4, pI (v4 + (-1))), (3, pI (s0 + s1)), (0, pR (some G.1)), (1, pI v1), (2, pI v2)] (Nat.le_of_ble_eq_true rfl) rfl ?_
  refine j_goto 19 dX5_readPrice_59 (by decide) ?_
  exact j_sub [2, 3, 4, 1, 0] _ rfl (hkh (s0 + s1) (v4 + (-1)) hf)
theorem c5_readPrice_l19 {G : MG} {l : Launch} {a : List PV} {r : Mu} {Kf : Int → Option (Mu)} (v1 : Int) (v2 : Int) (u : Mu) (hK0 : ∀ q : Int, Kf q = some r → J5 G l D5_readPrice a none r u 62 [(0, pR (some G.1)), (1, pI v1), (2, pI v2), (3, pI q)] []) : ∀ (n : Nat) (v3 : Int) (v4 : Int), ((m5_readPrice_l19 v1 v2 u n v3 v4).bind Kf = some r) → J5 G l D5_readPrice a none r u 19 [(0, pR (some G.1)), (1, pI v1), (2, pI v2), (3, pI v3), (4, pI v4)] [] := by
  intro n
  induction n with
  | zero => intro v3 v4 hf; exact onb hf
  | succ n ih =>
    intro v3 v4 hf
    unfold m5_readPrice_l19 at hf
    refine j_iload dX5_readPrice_19 4 rfl ?_
    refine j_if_lt (w32 v4) rfl 62 dX5_readPrice_21 (by decide) (fun h5 => ?_) (fun h5 => ?_)
    · replace hf := itb h5 hf
      exact j_sub [0, 1, 2, 3] _ rfl (hK0 v3 hf)
    · replace hf := ieb h5 hf
      refine j_aload_n dX5_readPrice_24 0 rfl ?_
      refine m_geta mf_28 rfl dX5_readPrice_25 ?_
      refine j_iload dX5_readPrice_28 4 rfl ?_
      obtain ⟨x1, hx1, hf⟩ := obb hf
      refine m_iald mr_28 hx1 dX5_readPrice_30 ?_
      refine j_bipush dX5_readPrice_31 (by decide) ?_
      refine j_icmp_eq (w32 x1) 18 rfl rfl 62 dX5_readPrice_33 (by decide) (fun h4 => ?_) (fun h4 => ?_)
      · replace hf := itb h4 hf
        exact j_sub [0, 1, 2, 3] _ rfl (hK0 v3 hf)
      · replace hf := ieb h4 hf
        refine j_iload_n dX5_readPrice_36 3 rfl ?_
        refine j_aload_n dX5_readPrice_37 0 rfl ?_
        refine m_geta mf_28 rfl dX5_readPrice_38 ?_
        refine j_iload dX5_readPrice_41 4 rfl ?_
        obtain ⟨x2, hx2, hf⟩ := obb hf
        refine m_iald mr_28 hx2 dX5_readPrice_43 ?_
        refine j_bipush dX5_readPrice_44 (by decide) ?_
        refine j_icmp_ne (w32 x2) 16 rfl rfl 53 dX5_readPrice_46 (by decide) (fun h3 => ?_) (fun h3 => ?_)
        · replace hf := ieb h3 hf
          refine j_iconst dX5_readPrice_53 ?_
          exact j_sub [0, 1, 2, 4] _ rfl (c5_readPrice_b54 (m5_readPrice_l19 v1 v2 u n) ih hK0 v4 v3 0 hf)
        · replace hf := itb h3 hf
          refine j_iconst dX5_readPrice_49 ?_
          refine j_goto 54 dX5_readPrice_50 (by decide) ?_
          exact j_sub [0, 1, 2, 4] _ rfl (c5_readPrice_b54 (m5_readPrice_l19 v1 v2 u n) ih hK0 v4 v3 1 hf)
theorem c5_readPrice_b79 {G : MG} {l : Launch} {a : List PV} {r : Mu} (u : Mu) (hf : m5_readPrice_b79 u = some r) : J5 G l D5_readPrice a none r u 79 [(0, pR (some G.1))] [] := by
  unfold m5_readPrice_b79 at hf
  refine j_aload_n dX5_readPrice_79 0 rfl ?_
  refine j_bipush dX5_readPrice_80 (by decide) ?_
  obtain ⟨u1, hu1, hf⟩ := ob hf
  refine j_cVv [pI 6] [] kT_v (bM_mv G) (c5_wrong 6 u hu1) wv5_wrong dv5_wrong rfl ⟨(Nat.le_of_ble_eq_true rfl), (Nat.le_of_ble_eq_true rfl)⟩ (m_recv u) rfl (Nat.le_of_ble_eq_true rfl) dX5_readPrice_82 ⟨Nat.le_refl 0, Nat.le_refl 0⟩ ?_
  replace hf := Option.some.inj hf
  subst hf
  exact j_return (bM_mv G) ⟨Nat.le_refl 0, Nat.le_refl 0⟩ rfl dX5_readPrice_85
theorem c5_readPrice_b191 {G : MG} {l : Launch} {a : List PV} {r : Mu} (v2 : Int) (u : Mu) (hf : m5_readPrice_b191 v2 u = some r) : J5 G l D5_readPrice a none r u 191 [(0, pR (some G.1)), (2, pI v2)] [] := by
  unfold m5_readPrice_b191 at hf
  refine j_aload_n dX5_readPrice_191 0 rfl ?_
  refine m_geta mf_31 rfl dX5_readPrice_192 ?_
  refine j_iload_n dX5_readPrice_195 1 rfl ?_
  refine j_aload_n dX5_readPrice_196 0 rfl ?_
  refine m_geti mf_46 rfl dX5_readPrice_197 ?_
  obtain ⟨u1, hu1, hf⟩ := ob hf
  refine m_iast mr_31 hu1 dX5_readPrice_200 ?_
  refine j_aload_n dX5_readPrice_201 0 rfl ?_
  refine m_geta mf_27 rfl dX5_readPrice_202 ?_
  refine j_iconst dX5_readPrice_205 ?_
  refine j_dup2_11 dX5_readPrice_206 rfl rfl ?_
  obtain ⟨x2, hx2, hf⟩ := ob hf
  refine m_iald mr_27 hx2 dX5_readPrice_207 ?_
  refine j_iconst dX5_readPrice_208 ?_
  refine j_iadd dX5_readPrice_209 ?_
  obtain ⟨u3, hu3, hf⟩ := ob hf
  refine m_iast mr_27 hu3 dX5_readPrice_210 ?_
  refine j_aload_n dX5_readPrice_211 0 rfl ?_
  refine j_bipush dX5_readPrice_212 (by decide) ?_
  obtain ⟨u4, hu4, hf⟩ := ob hf
  refine j_cVv [pI 6] [] kT_v (bM_mv G) (c5_wantsSign 6 u3 hu4) wv5_wantsSign dv5_wantsSign rfl ⟨(Nat.le_of_ble_eq_true rfl), (Nat.le_of_ble_eq_true rfl)⟩ (m_recv u3) rfl (Nat.le_of_ble_eq_true rfl) dX5_readPrice_214 ⟨Nat.le_refl 0, Nat.le_refl 0⟩ ?_
  replace hf := Option.some.inj hf
  subst hf
  exact j_return (bM_mv G) ⟨Nat.le_refl 0, Nat.le_refl 0⟩ rfl dX5_readPrice_217
theorem c5_readPrice_b174 {G : MG} {l : Launch} {a : List PV} {r : Mu} (v2 : Int) (u : Mu) (hf : m5_readPrice_b174 v2 u = some r) : J5 G l D5_readPrice a none r u 174 [(0, pR (some G.1)), (2, pI v2)] [] := by
  unfold m5_readPrice_b174 at hf
  refine j_aload_n dX5_readPrice_174 0 rfl ?_
  refine j_bipush dX5_readPrice_175 (by decide) ?_
  obtain ⟨x1, hx1, hf⟩ := ob hf
  refine j_cVr [pI 20] [] kT_v (bM_mv G) (c5_isWord 20 u hx1) wv5_isWord dv5_isWord rfl ⟨(Nat.le_of_ble_eq_true rfl), (Nat.le_of_ble_eq_true rfl)⟩ (m_recv u) rfl (Nat.le_of_ble_eq_true rfl) dX5_readPrice_177 ⟨Nat.le_refl 0, Nat.le_refl 0⟩ ?_
  refine j_if_eq (w32 x1) rfl 191 dX5_readPrice_180 (by decide) (fun h4 => ?_) (fun h4 => ?_)
  · replace hf := it h4 hf
    exact j_sub [0, 1] _ rfl (c5_readPrice_b191 v2 u hf)
  · replace hf := ie h4 hf
    refine j_aload_n dX5_readPrice_183 0 rfl ?_
    obtain ⟨u2, hu2, hf⟩ := ob hf
    refine j_cVv [] [] kT_v (bM_mv G) (c5_next  u hu2) wv5_next dv5_next rfl ⟨(Nat.le_of_ble_eq_true rfl), (Nat.le_of_ble_eq_true rfl)⟩ (m_recv u) rfl (Nat.le_of_ble_eq_true rfl) dX5_readPrice_184 ⟨Nat.le_refl 0, Nat.le_refl 0⟩ ?_
    refine j_aload_n dX5_readPrice_187 0 rfl ?_
    obtain ⟨u3, hu3, hf⟩ := ob hf
    refine j_cVv [] [] kT_v (bM_mv G) (c5_cond  u2 hu3) wv5_cond dv5_cond rfl ⟨(Nat.le_of_ble_eq_true rfl), (Nat.le_of_ble_eq_true rfl)⟩ (m_recv u2) rfl (Nat.le_of_ble_eq_true rfl) dX5_readPrice_188 ⟨Nat.le_refl 0, Nat.le_refl 0⟩ ?_
    exact j_sub [0, 1] _ rfl (c5_readPrice_b191 v2 u3 hf)
theorem c5_readPrice_b144 {G : MG} {l : Launch} {a : List PV} {r : Mu} (v1 : Int) (v2 : Int) (s1 : Int) (s2 : Int) (u : Mu) (hf : m5_readPrice_b144 v1 v2 s1 s2 u = some r) : J5 G l D5_readPrice a none r u 144 [(0, pR (some G.1)), (1, pI v1), (2, pI v2)] [pI s2, pI s1, pR (some (G.2.1 29))] := by
  unfold m5_readPrice_b144 at hf
  obtain ⟨u1, hu1, hf⟩ := ob hf
  refine m_iast mr_29 hu1 dX5_readPrice_144 ?_
  refine j_aload_n dX5_readPrice_145 0 rfl ?_
  refine m_geta mf_30 rfl dX5_readPrice_146 ?_
  refine j_iload_n dX5_readPrice_149 2 rfl ?_
  refine j_aload_n dX5_readPrice_150 0 rfl ?_
  refine m_geti mf_46 rfl dX5_readPrice_151 ?_
  obtain ⟨u2, hu2, hf⟩ := ob hf
  refine m_iast mr_30 hu2 dX5_readPrice_154 ?_
  refine j_aload_n dX5_readPrice_155 0 rfl ?_
  refine m_geti mf_8 rfl dX5_readPrice_156 ?_
  refine j_if_ne (w32 (u2.1 8)) rfl 191 dX5_readPrice_159 (by decide) (fun h5 => ?_) (fun h5 => ?_)
  · replace hf := ie h5 hf
    exact j_sub [0, 2] _ rfl (c5_readPrice_b191 v2 u2 hf)
  · replace hf := it h5 hf
    refine j_iload_n dX5_readPrice_162 1 rfl ?_
    refine j_bipush dX5_readPrice_163 (by decide) ?_
    refine j_icmp_eq (w32 v1) 16 rfl rfl 174 dX5_readPrice_165 (by decide) (fun h4 => ?_) (fun h4 => ?_)
    · replace hf := it h4 hf
      exact j_sub [0, 2] _ rfl (c5_readPrice_b174 v2 u2 hf)
    · replace hf := ie h4 hf
      refine j_iload_n dX5_readPrice_168 1 rfl ?_
      refine j_bipush dX5_readPrice_169 (by decide) ?_
      refine j_icmp_ne (w32 v1) 17 rfl rfl 191 dX5_readPrice_171 (by decide) (fun h3 => ?_) (fun h3 => ?_)
      · replace hf := ie h3 hf
        exact j_sub [0, 2] _ rfl (c5_readPrice_b191 v2 u2 hf)
      · replace hf := it h3 hf
        exact j_sub [0, 2] _ rfl (c5_readPrice_b174 v2 u2 hf)
theorem c5_readPrice_b86 {G : MG} {l : Launch} {a : List PV} {r : Mu} (v1 : Int) (v2 : Int) (u : Mu) (hf : m5_readPrice_b86 v1 v2 u = some r) : J5 G l D5_readPrice a none r u 86 [(0, pR (some G.1)), (1, pI v1), (2, pI v2)] [] := by
  unfold m5_readPrice_b86 at hf
  refine j_aload_n dX5_readPrice_86 0 rfl ?_
  obtain ⟨u1, hu1, hf⟩ := ob hf
  refine j_cVv [] [] kT_v (bM_mv G) (c5_next  u hu1) wv5_next dv5_next rfl ⟨(Nat.le_of_ble_eq_true rfl), (Nat.le_of_ble_eq_true rfl)⟩ (m_recv u) rfl (Nat.le_of_ble_eq_true rfl) dX5_readPrice_87 ⟨Nat.le_refl 0, Nat.le_refl 0⟩ ?_
  refine j_aload_n dX5_readPrice_90 0 rfl ?_
  refine m_geta mf_28 rfl dX5_readPrice_91 ?_
  refine j_iload_n dX5_readPrice_94 2 rfl ?_
  refine j_iload_n dX5_readPrice_95 1 rfl ?_
  obtain ⟨u2, hu2, hf⟩ := ob hf
  refine m_iast mr_28 hu2 dX5_readPrice_96 ?_
  refine j_aload_n dX5_readPrice_97 0 rfl ?_
  refine m_geta mf_29 rfl dX5_readPrice_98 ?_
  refine j_iload_n dX5_readPrice_101 2 rfl ?_
  refine j_iload_n dX5_readPrice_102 1 rfl ?_
  refine j_bipush dX5_readPrice_103 (by decide) ?_
  refine j_icmp_ne (w32 v1) 16 rfl rfl 119 dX5_readPrice_105 (by decide) (fun h7 => ?_) (fun h7 => ?_)
  · replace hf := ie h7 hf
    refine j_iload_n dX5_readPrice_119 1 rfl ?_
    refine j_bipush dX5_readPrice_120 (by decide) ?_
    refine j_icmp_ne (w32 v1) 18 rfl rfl 136 dX5_readPrice_122 (by decide) (fun h5 => ?_) (fun h5 => ?_)
    · replace hf := ie h5 hf
      refine j_aload_n dX5_readPrice_136 0 rfl ?_
      refine j_iconst dX5_readPrice_137 ?_
      refine j_ldcw (z := 9999999) q2341 (by decide) dX5_readPrice_138 ?_
      obtain ⟨q3, hq3, hf⟩ := ob hf
      refine j_cVr [pI 0, pI 9999999] [pI v2, pR (some (G.2.1 29))] kT_v (bM_mv G) (c5_wantsNumber 0 9999999 u2 hq3) wv5_wantsNumber dv5_wantsNumber rfl ⟨(Nat.le_of_ble_eq_true rfl), (Nat.le_of_ble_eq_true rfl)⟩ (m_recv u2) rfl (Nat.le_of_ble_eq_true rfl) dX5_readPrice_141 ⟨Nat.le_refl 0, Nat.le_refl 0⟩ ?_
      exact j_sub [0, 1, 2] _ rfl (c5_readPrice_b144 v1 v2 v2 q3.1 q3.2 hf)
    · replace hf := it h5 hf
      refine j_aload_n dX5_readPrice_125 0 rfl ?_
      refine j_iconst dX5_readPrice_126 ?_
      refine j_ldcw (z := 100000) q2340 (by decide) dX5_readPrice_127 ?_
      obtain ⟨q4, hq4, hf⟩ := ob hf
      refine j_cVr [pI 1, pI 100000] [pI v2, pR (some (G.2.1 29))] kT_v (bM_mv G) (c5_wantsNumber 1 100000 u2 hq4) wv5_wantsNumber dv5_wantsNumber rfl ⟨(Nat.le_of_ble_eq_true rfl), (Nat.le_of_ble_eq_true rfl)⟩ (m_recv u2) rfl (Nat.le_of_ble_eq_true rfl) dX5_readPrice_130 ⟨Nat.le_refl 0, Nat.le_refl 0⟩ ?_
      refine j_goto 144 dX5_readPrice_133 (by decide) ?_
      exact j_sub [0, 1, 2] _ rfl (c5_readPrice_b144 v1 v2 v2 q4.1 q4.2 hf)
  · replace hf := it h7 hf
    refine j_aload_n dX5_readPrice_108 0 rfl ?_
    refine j_iconst dX5_readPrice_109 ?_
    refine j_sipush dX5_readPrice_110 (by decide) ?_
    obtain ⟨q6, hq6, hf⟩ := ob hf
    refine j_cVr [pI 0, pI 3000] [pI v2, pR (some (G.2.1 29))] kT_v (bM_mv G) (c5_wantsNumber 0 3000 u2 hq6) wv5_wantsNumber dv5_wantsNumber rfl ⟨(Nat.le_of_ble_eq_true rfl), (Nat.le_of_ble_eq_true rfl)⟩ (m_recv u2) rfl (Nat.le_of_ble_eq_true rfl) dX5_readPrice_113 ⟨Nat.le_refl 0, Nat.le_refl 0⟩ ?_
    refine j_goto 144 dX5_readPrice_116 (by decide) ?_
    exact j_sub [0, 1, 2] _ rfl (c5_readPrice_b144 v1 v2 v2 q6.1 q6.2 hf)
theorem c5_readPrice_b62 {G : MG} {l : Launch} {a : List PV} {r : Mu} (v1 : Int) (v2 : Int) (v3 : Int) (u : Mu) (hf : m5_readPrice_b62 v1 v2 v3 u = some r) : J5 G l D5_readPrice a none r u 62 [(0, pR (some G.1)), (1, pI v1), (2, pI v2), (3, pI v3)] [] := by
  unfold m5_readPrice_b62 at hf
  refine j_iload_n dX5_readPrice_62 2 rfl ?_
  refine j_bipush dX5_readPrice_63 (by decide) ?_
  refine j_icmp_eq (w32 v2) 24 rfl rfl 79 dX5_readPrice_65 (by decide) (fun h3 => ?_) (fun h3 => ?_)
  · replace hf := it h3 hf
    exact j_sub [0] _ rfl (c5_readPrice_b79 u hf)
  · replace hf := ie h3 hf
    refine j_iload_n dX5_readPrice_68 1 rfl ?_
    refine j_bipush dX5_readPrice_69 (by decide) ?_
    refine j_icmp_ne (w32 v1) 16 rfl rfl 86 dX5_readPrice_71 (by decide) (fun h2 => ?_) (fun h2 => ?_)
    · replace hf := ie h2 hf
      exact j_sub [0, 1, 2] _ rfl (c5_readPrice_b86 v1 v2 u hf)
    · replace hf := it h2 hf
      refine j_iload_n dX5_readPrice_74 3 rfl ?_
      refine j_iconst dX5_readPrice_75 ?_
      refine j_icmp_ne (w32 v3) 3 rfl rfl 86 dX5_readPrice_76 (by decide) (fun h1 => ?_) (fun h1 => ?_)
      · replace hf := ie h1 hf
        exact j_sub [0, 1, 2] _ rfl (c5_readPrice_b86 v1 v2 u hf)
      · replace hf := it h1 hf
        exact j_sub [0] _ rfl (c5_readPrice_b79 u hf)
theorem c5_readPrice {G : MG} {l : Launch} {r : Mu}  (u : Mu) (hf : m5_readPrice u = some r) : JM kT (bM G) (aM G) l yX5_readPrice D5_readPrice [pR (some G.1)] u none r 0 0 := by
  refine j_met (lv0 := [(0, pR (some G.1))]) ⟨pl_X5, rfl, rfl, (Nat.le_of_ble_eq_true rfl), rfl⟩ ?_
  unfold m5_readPrice at hf
  refine j_aload_n dX5_readPrice_0 0 rfl ?_
  refine m_geti mf_7 rfl dX5_readPrice_1 ?_
  refine j_istore_n dX5_readPrice_4 [(1, pI (u.1 7)), (0, pR (some G.1))] (Nat.le_of_ble_eq_true rfl) rfl ?_
  refine j_aload_n dX5_readPrice_5 1 rfl ?_
  refine m_geta mf_27 rfl dX5_readPrice_6 ?_
  refine j_iconst dX5_readPrice_9 ?_
  obtain ⟨x1, hx1, hf⟩ := ob hf
  refine m_iald mr_27 hx1 dX5_readPrice_10 ?_
  refine j_istore_n dX5_readPrice_11 [(2, pI x1), (1, pI (u.1 7)), (0, pR (some G.1))] (Nat.le_of_ble_eq_true rfl) rfl ?_
  refine j_iconst dX5_readPrice_12 ?_
  refine j_istore_n dX5_readPrice_13 [(3, pI 0), (2, pI x1), (1, pI (u.1 7)), (0, pR (some G.1))] (Nat.le_of_ble_eq_true rfl) rfl ?_
  refine j_iload_n dX5_readPrice_14 1 rfl ?_
  refine j_iconst dX5_readPrice_15 ?_
  refine j_isub dX5_readPrice_16 ?_
  refine j_istore dX5_readPrice_17 [(4, pI (x1 - 1)), (3, pI 0), (2, pI x1), (1, pI (u.1 7)), (0, pR (some G.1))] (Nat.le_of_ble_eq_true rfl) rfl ?_
  refine j_sub [4, 3, 2, 1, 0] _ rfl (c5_readPrice_l19 (u.1 7) x1 u ?_ NN 0 (x1 - 1) hf)
  · intro q2 hf
    exact j_sub [0, 1, 2, 3] _ rfl (c5_readPrice_b62 (u.1 7) x1 q2 u hf)
theorem c5_readStatement_b149 {G : MG} {l : Launch} {a : List PV} {r : Mu} (s1 : Int) (s3 : Int) (s4 : Int) (u : Mu) (hf : m5_readStatement_b149 s1 s3 s4 u = some r) : J5 G l D5_readStatement a none r u 149 [(0, pR (some G.1))] [pI s4, pI s3, pR (some G.1), pI s1, pR (some (G.2.1 32))] := by
  unfold m5_readStatement_b149 at hf
  obtain ⟨q1, hq1, hf⟩ := ob hf
  refine j_cVr [pI s3, pI s4] [pI s1, pR (some (G.2.1 32))] kT_v (bM_mv G) (c5_wantsNumber s3 s4 u hq1) wv5_wantsNumber dv5_wantsNumber rfl ⟨(Nat.le_of_ble_eq_true rfl), (Nat.le_of_ble_eq_true rfl)⟩ (m_recv u) rfl (Nat.le_of_ble_eq_true rfl) dX5_readStatement_149 ⟨Nat.le_refl 0, Nat.le_refl 0⟩ ?_
  obtain ⟨u2, hu2, hf⟩ := ob hf
  refine m_iast mr_32 hu2 dX5_readStatement_152 ?_
  refine j_aload_n dX5_readStatement_153 0 rfl ?_
  refine j_bipush dX5_readStatement_154 (by decide) ?_
  obtain ⟨u3, hu3, hf⟩ := ob hf
  refine j_cVv [pI 6] [] kT_v (bM_mv G) (c5_wantsSign 6 u2 hu3) wv5_wantsSign dv5_wantsSign rfl ⟨(Nat.le_of_ble_eq_true rfl), (Nat.le_of_ble_eq_true rfl)⟩ (m_recv u2) rfl (Nat.le_of_ble_eq_true rfl) dX5_readStatement_156 ⟨Nat.le_refl 0, Nat.le_refl 0⟩ ?_
  refine j_goto 198 dX5_readStatement_159 (by decide) ?_
  replace hf := Option.some.inj hf
  subst hf
  exact j_return (bM_mv G) ⟨Nat.le_refl 0, Nat.le_refl 0⟩ rfl dX5_readStatement_198
theorem c5_readStatement_b104 {G : MG} {l : Launch} {a : List PV} {r : Mu} (v1 : Int) (s0 : Int) (u : Mu) (hf : m5_readStatement_b104 v1 s0 u = some r) : J5 G l D5_readStatement a none r u 104 [(0, pR (some G.1)), (1, pI v1)] [pI s0] := by
  unfold m5_readStatement_b104 at hf
  refine j_istore_n dX5_readStatement_104 [(2, pI s0), (0, pR (some G.1)), (1, pI v1)] (Nat.le_of_ble_eq_true rfl) rfl ?_
  refine j_aload_n dX5_readStatement_105 1 rfl ?_
  refine m_geta mf_32 rfl dX5_readStatement_106 ?_
  refine j_iload_n dX5_readStatement_109 0 rfl ?_
  obtain ⟨x1, hx1, hf⟩ := ob hf
  refine m_iald mr_32 hx1 dX5_readStatement_110 ?_
  refine j_bipush dX5_readStatement_111 (by decide) ?_
  refine j_icmp_eq (w32 x1) (-3) rfl rfl 123 dX5_readStatement_113 (by decide) (fun h5 => ?_) (fun h5 => ?_)
  · replace hf := it h5 hf
    refine j_aload_n dX5_readStatement_123 1 rfl ?_
    obtain ⟨u2, hu2, hf⟩ := ob hf
    refine j_cVv [] [] kT_v (bM_mv G) (c5_next  u hu2) wv5_next dv5_next rfl ⟨(Nat.le_of_ble_eq_true rfl), (Nat.le_of_ble_eq_true rfl)⟩ (m_recv u) rfl (Nat.le_of_ble_eq_true rfl) dX5_readStatement_124 ⟨Nat.le_refl 0, Nat.le_refl 0⟩ ?_
    refine j_aload_n dX5_readStatement_127 1 rfl ?_
    refine m_geta mf_32 rfl dX5_readStatement_128 ?_
    refine j_iload_n dX5_readStatement_131 0 rfl ?_
    refine j_aload_n dX5_readStatement_132 1 rfl ?_
    refine j_iconst dX5_readStatement_133 ?_
    refine j_iload_n dX5_readStatement_134 2 rfl ?_
    refine j_bipush dX5_readStatement_135 (by decide) ?_
    refine j_icmp_ne (w32 v1) 9 rfl rfl 146 dX5_readStatement_137 (by decide) (fun h3 => ?_) (fun h3 => ?_)
    · replace hf := ie h3 hf
      refine j_sipush dX5_readStatement_146 (by decide) ?_
      exact j_sub [1] _ rfl (c5_readStatement_b149 s0 0 1000 u2 hf)
    · replace hf := it h3 hf
      refine j_ldcw (z := 99999999) q2327 (by decide) dX5_readStatement_140 ?_
      refine j_goto 149 dX5_readStatement_143 (by decide) ?_
      exact j_sub [1] _ rfl (c5_readStatement_b149 s0 0 99999999 u2 hf)
  · replace hf := ie h5 hf
    refine j_aload_n dX5_readStatement_116 1 rfl ?_
    refine j_bipush dX5_readStatement_117 (by decide) ?_
    obtain ⟨u4, hu4, hf⟩ := ob hf
    refine j_cVv [pI 6] [] kT_v (bM_mv G) (c5_wrong 6 u hu4) wv5_wrong dv5_wrong rfl ⟨(Nat.le_of_ble_eq_true rfl), (Nat.le_of_ble_eq_true rfl)⟩ (m_recv u) rfl (Nat.le_of_ble_eq_true rfl) dX5_readStatement_119 ⟨Nat.le_refl 0, Nat.le_refl 0⟩ ?_
    replace hf := Option.some.inj hf
    subst hf
    exact j_return (bM_mv G) ⟨Nat.le_refl 0, Nat.le_refl 0⟩ rfl dX5_readStatement_122
theorem c5_readStatement_b93 {G : MG} {l : Launch} {a : List PV} {r : Mu} (v1 : Int) (u : Mu) (hf : m5_readStatement_b93 v1 u = some r) : J5 G l D5_readStatement a none r u 93 [(0, pR (some G.1)), (1, pI v1)] [] := by
  unfold m5_readStatement_b93 at hf
  refine j_iload_n dX5_readStatement_93 1 rfl ?_
  refine j_bipush dX5_readStatement_94 (by decide) ?_
  refine j_icmp_ne (w32 v1) 9 rfl rfl 103 dX5_readStatement_96 (by decide) (fun h1 => ?_) (fun h1 => ?_)
  · replace hf := ie h1 hf
    refine j_iconst dX5_readStatement_103 ?_
    exact j_sub [0, 1] _ rfl (c5_readStatement_b104 v1 1 u hf)
  · replace hf := it h1 hf
    refine j_iconst dX5_readStatement_99 ?_
    refine j_goto 104 dX5_readStatement_100 (by decide) ?_
    exact j_sub [0, 1] _ rfl (c5_readStatement_b104 v1 0 u hf)
theorem c5_readStatement_b194 {G : MG} {l : Launch} {a : List PV} {r : Mu} (u : Mu) (hf : m5_readStatement_b194 u = some r) : J5 G l D5_readStatement a none r u 194 [(0, pR (some G.1))] [] := by
  unfold m5_readStatement_b194 at hf
  refine j_aload_n dX5_readStatement_194 0 rfl ?_
  obtain ⟨u1, hu1, hf⟩ := ob hf
  refine j_cVv [] [] kT_v (bM_mv G) (c5_cannot  u hu1) wv5_cannot dv5_cannot rfl ⟨(Nat.le_of_ble_eq_true rfl), (Nat.le_of_ble_eq_true rfl)⟩ (m_recv u) rfl (Nat.le_of_ble_eq_true rfl) dX5_readStatement_195 ⟨Nat.le_refl 0, Nat.le_refl 0⟩ ?_
  replace hf := Option.some.inj hf
  subst hf
  exact j_return (bM_mv G) ⟨Nat.le_refl 0, Nat.le_refl 0⟩ rfl dX5_readStatement_198
theorem c5_readStatement {G : MG} {l : Launch} {r : Mu}  (u : Mu) (hf : m5_readStatement u = some r) : JM kT (bM G) (aM G) l yX5_readStatement D5_readStatement [pR (some G.1)] u none r 0 0 := by
  refine j_met (lv0 := [(0, pR (some G.1))]) ⟨pl_X5, rfl, rfl, (Nat.le_of_ble_eq_true rfl), rfl⟩ ?_
  unfold m5_readStatement at hf
  refine j_aload_n dX5_readStatement_0 0 rfl ?_
  refine m_geti mf_4 rfl dX5_readStatement_1 ?_
  refine j_iconst dX5_readStatement_4 ?_
  refine j_icmp_eq (w32 (u.1 4)) 4 rfl rfl 13 dX5_readStatement_5 (by decide) (fun h20 => ?_) (fun h20 => ?_)
  · replace hf := it h20 hf
    refine j_aload_n dX5_readStatement_13 0 rfl ?_
    refine m_geti mf_7 rfl dX5_readStatement_14 ?_
    refine j_istore_n dX5_readStatement_17 [(1, pI (u.1 7)), (0, pR (some G.1))] (Nat.le_of_ble_eq_true rfl) rfl ?_
    refine j_iload_n dX5_readStatement_18 0 rfl ?_
    refine j_if_ne (w32 (u.1 7)) rfl 33 dX5_readStatement_19 (by decide) (fun h18 => ?_) (fun h18 => ?_)
    · replace hf := ie h18 hf
      refine j_iload_n dX5_readStatement_33 0 rfl ?_
      refine j_iconst dX5_readStatement_34 ?_
      refine j_icmp_ne (w32 (u.1 7)) 5 rfl rfl 49 dX5_readStatement_35 (by decide) (fun h15 => ?_) (fun h15 => ?_)
      · replace hf := ie h15 hf
        refine j_aload_n dX5_readStatement_49 1 rfl ?_
        obtain ⟨x1, hx1, hf⟩ := ob hf
        refine j_cVr [] [] kT_v (bM_mv G) (c5_isClause  u hx1) wv5_isClause dv5_isClause rfl ⟨(Nat.le_of_ble_eq_true rfl), (Nat.le_of_ble_eq_true rfl)⟩ (m_recv u) rfl (Nat.le_of_ble_eq_true rfl) dX5_readStatement_50 ⟨Nat.le_refl 0, Nat.le_refl 0⟩ ?_
        refine j_if_eq (w32 x1) rfl 81 dX5_readStatement_53 (by decide) (fun h12 => ?_) (fun h12 => ?_)
        · replace hf := it h12 hf
          refine j_iload_n dX5_readStatement_81 0 rfl ?_
          refine j_bipush dX5_readStatement_82 (by decide) ?_
          refine j_icmp_eq (w32 (u.1 7)) 9 rfl rfl 93 dX5_readStatement_84 (by decide) (fun h8 => ?_) (fun h8 => ?_)
          · replace hf := it h8 hf
            exact j_sub [1, 0] _ rfl (c5_readStatement_b93 (u.1 7) u hf)
          · replace hf := ie h8 hf
            refine j_iload_n dX5_readStatement_87 0 rfl ?_
            refine j_bipush dX5_readStatement_88 (by decide) ?_
            refine j_icmp_ne (w32 (u.1 7)) 10 rfl rfl 162 dX5_readStatement_90 (by decide) (fun h7 => ?_) (fun h7 => ?_)
            · replace hf := ie h7 hf
              refine j_iload_n dX5_readStatement_162 0 rfl ?_
              refine j_bipush dX5_readStatement_163 (by decide) ?_
              refine j_icmp_ne (w32 (u.1 7)) 11 rfl rfl 175 dX5_readStatement_165 (by decide) (fun h6 => ?_) (fun h6 => ?_)
              · replace hf := ie h6 hf
                refine j_iload_n dX5_readStatement_175 0 rfl ?_
                refine j_bipush dX5_readStatement_176 (by decide) ?_
                refine j_icmp_lt (w32 (u.1 7)) 15 rfl rfl 194 dX5_readStatement_178 (by decide) (fun h4 => ?_) (fun h4 => ?_)
                · replace hf := it h4 hf
                  exact j_sub [1] _ rfl (c5_readStatement_b194 u hf)
                · replace hf := ie h4 hf
                  refine j_iload_n dX5_readStatement_181 0 rfl ?_
                  refine j_bipush dX5_readStatement_182 (by decide) ?_
                  refine j_icmp_gt (w32 (u.1 7)) 19 rfl rfl 194 dX5_readStatement_184 (by decide) (fun h3 => ?_) (fun h3 => ?_)
                  · replace hf := it h3 hf
                    exact j_sub [1] _ rfl (c5_readStatement_b194 u hf)
                  · replace hf := ie h3 hf
                    refine j_aload_n dX5_readStatement_187 1 rfl ?_
                    obtain ⟨u2, hu2, hf⟩ := ob hf
                    refine j_cVv [] [] kT_v (bM_mv G) (c5_readPrice  u hu2) wv5_readPrice dv5_readPrice rfl ⟨(Nat.le_of_ble_eq_true rfl), (Nat.le_of_ble_eq_true rfl)⟩ (m_recv u) rfl (Nat.le_of_ble_eq_true rfl) dX5_readStatement_188 ⟨Nat.le_refl 0, Nat.le_refl 0⟩ ?_
                    refine j_goto 198 dX5_readStatement_191 (by decide) ?_
                    replace hf := Option.some.inj hf
                    subst hf
                    exact j_return (bM_mv G) ⟨Nat.le_refl 0, Nat.le_refl 0⟩ rfl dX5_readStatement_198
              · replace hf := it h6 hf
                refine j_aload_n dX5_readStatement_168 1 rfl ?_
                obtain ⟨u5, hu5, hf⟩ := ob hf
                refine j_cVv [] [] kT_v (bM_mv G) (c5_readMost  u hu5) wv5_readMost dv5_readMost rfl ⟨(Nat.le_of_ble_eq_true rfl), (Nat.le_of_ble_eq_true rfl)⟩ (m_recv u) rfl (Nat.le_of_ble_eq_true rfl) dX5_readStatement_169 ⟨Nat.le_refl 0, Nat.le_refl 0⟩ ?_
                refine j_goto 198 dX5_readStatement_172 (by decide) ?_
                replace hf := Option.some.inj hf
                subst hf
                exact j_return (bM_mv G) ⟨Nat.le_refl 0, Nat.le_refl 0⟩ rfl dX5_readStatement_198
            · replace hf := it h7 hf
              exact j_sub [1, 0] _ rfl (c5_readStatement_b93 (u.1 7) u hf)
        · replace hf := ie h12 hf
          refine j_aload_n dX5_readStatement_56 1 rfl ?_
          refine m_geti mf_56 rfl dX5_readStatement_57 ?_
          refine j_bipush dX5_readStatement_60 (by decide) ?_
          refine j_icmp_ne (w32 (u.1 56)) 24 rfl rfl 74 dX5_readStatement_62 (by decide) (fun h11 => ?_) (fun h11 => ?_)
          · replace hf := ie h11 hf
            refine j_aload_n dX5_readStatement_74 1 rfl ?_
            obtain ⟨u9, hu9, hf⟩ := ob hf
            refine j_cVv [] [] kT_v (bM_mv G) (c5_readClause  u hu9) wv5_readClause dv5_readClause rfl ⟨(Nat.le_of_ble_eq_true rfl), (Nat.le_of_ble_eq_true rfl)⟩ (m_recv u) rfl (Nat.le_of_ble_eq_true rfl) dX5_readStatement_75 ⟨Nat.le_refl 0, Nat.le_refl 0⟩ ?_
            refine j_goto 198 dX5_readStatement_78 (by decide) ?_
            replace hf := Option.some.inj hf
            subst hf
            exact j_return (bM_mv G) ⟨Nat.le_refl 0, Nat.le_refl 0⟩ rfl dX5_readStatement_198
          · replace hf := it h11 hf
            refine j_aload_n dX5_readStatement_65 1 rfl ?_
            refine j_bipush dX5_readStatement_66 (by decide) ?_
            obtain ⟨u10, hu10, hf⟩ := ob hf
            refine j_cVv [pI 6] [] kT_v (bM_mv G) (c5_wrong 6 u hu10) wv5_wrong dv5_wrong rfl ⟨(Nat.le_of_ble_eq_true rfl), (Nat.le_of_ble_eq_true rfl)⟩ (m_recv u) rfl (Nat.le_of_ble_eq_true rfl) dX5_readStatement_68 ⟨Nat.le_refl 0, Nat.le_refl 0⟩ ?_
            refine j_goto 198 dX5_readStatement_71 (by decide) ?_
            replace hf := Option.some.inj hf
            subst hf
            exact j_return (bM_mv G) ⟨Nat.le_refl 0, Nat.le_refl 0⟩ rfl dX5_readStatement_198
      · replace hf := it h15 hf
        refine j_aload_n dX5_readStatement_38 1 rfl ?_
        obtain ⟨u13, hu13, hf⟩ := ob hf
        refine j_cVv [] [] kT_v (bM_mv G) (c5_next  u hu13) wv5_next dv5_next rfl ⟨(Nat.le_of_ble_eq_true rfl), (Nat.le_of_ble_eq_true rfl)⟩ (m_recv u) rfl (Nat.le_of_ble_eq_true rfl) dX5_readStatement_39 ⟨Nat.le_refl 0, Nat.le_refl 0⟩ ?_
        refine j_aload_n dX5_readStatement_42 1 rfl ?_
        obtain ⟨u14, hu14, hf⟩ := ob hf
        refine j_cVv [] [] kT_v (bM_mv G) (c5_readMean  u13 hu14) wv5_readMean dv5_readMean rfl ⟨(Nat.le_of_ble_eq_true rfl), (Nat.le_of_ble_eq_true rfl)⟩ (m_recv u13) rfl (Nat.le_of_ble_eq_true rfl) dX5_readStatement_43 ⟨Nat.le_refl 0, Nat.le_refl 0⟩ ?_
        refine j_goto 198 dX5_readStatement_46 (by decide) ?_
        replace hf := Option.some.inj hf
        subst hf
        exact j_return (bM_mv G) ⟨Nat.le_refl 0, Nat.le_refl 0⟩ rfl dX5_readStatement_198
    · replace hf := it h18 hf
      refine j_aload_n dX5_readStatement_22 1 rfl ?_
      obtain ⟨u16, hu16, hf⟩ := ob hf
      refine j_cVv [] [] kT_v (bM_mv G) (c5_next  u hu16) wv5_next dv5_next rfl ⟨(Nat.le_of_ble_eq_true rfl), (Nat.le_of_ble_eq_true rfl)⟩ (m_recv u) rfl (Nat.le_of_ble_eq_true rfl) dX5_readStatement_23 ⟨Nat.le_refl 0, Nat.le_refl 0⟩ ?_
      refine j_aload_n dX5_readStatement_26 1 rfl ?_
      obtain ⟨u17, hu17, hf⟩ := ob hf
      refine j_cVv [] [] kT_v (bM_mv G) (c5_readFact  u16 hu17) wv5_readFact dv5_readFact rfl ⟨(Nat.le_of_ble_eq_true rfl), (Nat.le_of_ble_eq_true rfl)⟩ (m_recv u16) rfl (Nat.le_of_ble_eq_true rfl) dX5_readStatement_27 ⟨Nat.le_refl 0, Nat.le_refl 0⟩ ?_
      refine j_goto 198 dX5_readStatement_30 (by decide) ?_
      replace hf := Option.some.inj hf
      subst hf
      exact j_return (bM_mv G) ⟨Nat.le_refl 0, Nat.le_refl 0⟩ rfl dX5_readStatement_198
  · replace hf := ie h20 hf
    refine j_aload_n dX5_readStatement_8 0 rfl ?_
    obtain ⟨u19, hu19, hf⟩ := ob hf
    refine j_cVv [] [] kT_v (bM_mv G) (c5_cannot  u hu19) wv5_cannot dv5_cannot rfl ⟨(Nat.le_of_ble_eq_true rfl), (Nat.le_of_ble_eq_true rfl)⟩ (m_recv u) rfl (Nat.le_of_ble_eq_true rfl) dX5_readStatement_9 ⟨Nat.le_refl 0, Nat.le_refl 0⟩ ?_
    replace hf := Option.some.inj hf
    subst hf
    exact j_return (bM_mv G) ⟨Nat.le_refl 0, Nat.le_refl 0⟩ rfl dX5_readStatement_12

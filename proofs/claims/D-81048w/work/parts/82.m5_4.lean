theorem c5_joinStarts_l27 {G : MG} {l : Launch} {a : List PV} {r : Int × Mu} {Kf : Mu → Option (Int × Mu)} (v1 : Int) (v2 : Int) (v3 : Int) (v5 : Int) (hK0 : ∀ q : Mu, Kf q = some r → J5 G l D5_joinStarts a (some (pI r.1)) r.2 q 75 [(0, pR (some G.1)), (1, pI v1), (2, pI v2), (3, pL v3), (5, pI v5)] []) : ∀ (n : Nat) (v6 : Int) (u : Mu), ((m5_joinStarts_l27 v1 v2 v3 v5 n v6 u).bind Kf = some r) → J5 G l D5_joinStarts a (some (pI r.1)) r.2 u 27 [(0, pR (some G.1)), (1, pI v1), (2, pI v2), (3, pL v3), (5, pI v5), (6, pI v6)] [] := by
  intro n
  induction n with
  | zero => intro v6 u hf; exact onb hf
  | succ n ih =>
    intro v6 u hf
    unfold m5_joinStarts_l27 at hf
    refine j_iload dX5_joinStarts_27 5 rfl ?_
    refine j_aload_n dX5_joinStarts_29 0 rfl ?_
    refine m_geta mf_39 rfl dX5_joinStarts_30 ?_
    refine j_bipush dX5_joinStarts_33 (by decide) ?_
    refine j_iload_n dX5_joinStarts_35 1 rfl ?_
    refine j_imul dX5_joinStarts_36 ?_
    refine j_iload dX5_joinStarts_37 4 rfl ?_
    refine j_iadd dX5_joinStarts_39 ?_
    obtain ⟨x1, hx1, hf⟩ := obb hf
    refine m_iald mr_39 hx1 dX5_joinStarts_40 ?_
    refine j_icmp_ge (w32 v6) (w32 x1) rfl rfl 75 dX5_joinStarts_41 (by decide) (fun h4 => ?_) (fun h4 => ?_)
    · replace hf := itb h4 hf
      exact j_sub [0, 1, 2, 3, 4] _ rfl (hK0 u hf)
    · replace hf := ieb h4 hf
      refine j_aload_n dX5_joinStarts_44 0 rfl ?_
      refine j_iload dX5_joinStarts_45 4 rfl ?_
      refine j_aload_n dX5_joinStarts_47 0 rfl ?_
      refine m_geta mf_38 rfl dX5_joinStarts_48 ?_
      refine j_sipush dX5_joinStarts_51 (by decide) ?_
      refine j_bipush dX5_joinStarts_54 (by decide) ?_
      refine j_iload_n dX5_joinStarts_56 1 rfl ?_
      refine j_imul dX5_joinStarts_57 ?_
      refine j_iload dX5_joinStarts_58 4 rfl ?_
      refine j_iadd dX5_joinStarts_60 ?_
      refine j_imul dX5_joinStarts_61 ?_
      refine j_iload dX5_joinStarts_62 5 rfl ?_
      refine j_iadd dX5_joinStarts_64 ?_
      obtain ⟨x2, hx2, hf⟩ := obb hf
      refine m_iald mr_38 hx2 dX5_joinStarts_65 ?_
      obtain ⟨u3, hu3, hf⟩ := obb hf
      refine j_cVv [pI v5, pI x2] [] kT_v (bM_mv G) (c5_putBoth v5 x2 u hu3) wv5_putBoth dv5_putBoth rfl ⟨(Nat.le_of_ble_eq_true rfl), (Nat.le_of_ble_eq_true rfl)⟩ (m_recv u) rfl (Nat.le_of_ble_eq_true rfl) dX5_joinStarts_66 ⟨Nat.le_refl 0, Nat.le_refl 0⟩ ?_
      refine j_iinc dX5_joinStarts_69 5 rfl [(6, pI (v6 + 1)), (0, pR (some G.1)), (1, pI v1), (2, pI v2), (3, pL v3), (5, pI v5)] (Nat.le_of_ble_eq_true rfl) rfl ?_
      refine j_goto 27 dX5_joinStarts_72 (by decide) ?_
      exact j_sub [1, 2, 3, 4, 5, 0] _ rfl (ih (v6 + 1) u3 hf)
theorem c5_joinStarts_l78 {G : MG} {l : Launch} {a : List PV} {r : Int × Mu} {Kf : Mu → Option (Int × Mu)} (v1 : Int) (v2 : Int) (v3 : Int) (v5 : Int) (hK0 : ∀ q : Mu, Kf q = some r → J5 G l D5_joinStarts a (some (pI r.1)) r.2 q 126 [(0, pR (some G.1)), (1, pI v1), (2, pI v2), (3, pL v3), (5, pI v5)] []) : ∀ (n : Nat) (v6 : Int) (u : Mu), ((m5_joinStarts_l78 v1 v2 v3 v5 n v6 u).bind Kf = some r) → J5 G l D5_joinStarts a (some (pI r.1)) r.2 u 78 [(0, pR (some G.1)), (1, pI v1), (2, pI v2), (3, pL v3), (5, pI v5), (6, pI v6)] [] := by
  intro n
  induction n with
  | zero => intro v6 u hf; exact onb hf
  | succ n ih =>
    intro v6 u hf
    unfold m5_joinStarts_l78 at hf
    refine j_iload dX5_joinStarts_78 5 rfl ?_
    refine j_aload_n dX5_joinStarts_80 0 rfl ?_
    refine m_geta mf_39 rfl dX5_joinStarts_81 ?_
    refine j_bipush dX5_joinStarts_84 (by decide) ?_
    refine j_iload_n dX5_joinStarts_86 2 rfl ?_
    refine j_imul dX5_joinStarts_87 ?_
    refine j_iload dX5_joinStarts_88 4 rfl ?_
    refine j_iadd dX5_joinStarts_90 ?_
    obtain ⟨x1, hx1, hf⟩ := obb hf
    refine m_iald mr_39 hx1 dX5_joinStarts_91 ?_
    refine j_icmp_ge (w32 v6) (w32 x1) rfl rfl 126 dX5_joinStarts_92 (by decide) (fun h4 => ?_) (fun h4 => ?_)
    · replace hf := itb h4 hf
      exact j_sub [0, 1, 2, 3, 4] _ rfl (hK0 u hf)
    · replace hf := ieb h4 hf
      refine j_aload_n dX5_joinStarts_95 0 rfl ?_
      refine j_iload dX5_joinStarts_96 4 rfl ?_
      refine j_aload_n dX5_joinStarts_98 0 rfl ?_
      refine m_geta mf_38 rfl dX5_joinStarts_99 ?_
      refine j_sipush dX5_joinStarts_102 (by decide) ?_
      refine j_bipush dX5_joinStarts_105 (by decide) ?_
      refine j_iload_n dX5_joinStarts_107 2 rfl ?_
      refine j_imul dX5_joinStarts_108 ?_
      refine j_iload dX5_joinStarts_109 4 rfl ?_
      refine j_iadd dX5_joinStarts_111 ?_
      refine j_imul dX5_joinStarts_112 ?_
      refine j_iload dX5_joinStarts_113 5 rfl ?_
      refine j_iadd dX5_joinStarts_115 ?_
      obtain ⟨x2, hx2, hf⟩ := obb hf
      refine m_iald mr_38 hx2 dX5_joinStarts_116 ?_
      obtain ⟨u3, hu3, hf⟩ := obb hf
      refine j_cVv [pI v5, pI x2] [] kT_v (bM_mv G) (c5_putBoth v5 x2 u hu3) wv5_putBoth dv5_putBoth rfl ⟨(Nat.le_of_ble_eq_true rfl), (Nat.le_of_ble_eq_true rfl)⟩ (m_recv u) rfl (Nat.le_of_ble_eq_true rfl) dX5_joinStarts_117 ⟨Nat.le_refl 0, Nat.le_refl 0⟩ ?_
      refine j_iinc dX5_joinStarts_120 5 rfl [(6, pI (v6 + 1)), (0, pR (some G.1)), (1, pI v1), (2, pI v2), (3, pL v3), (5, pI v5)] (Nat.le_of_ble_eq_true rfl) rfl ?_
      refine j_goto 78 dX5_joinStarts_123 (by decide) ?_
      exact j_sub [1, 2, 3, 4, 5, 0] _ rfl (ih (v6 + 1) u3 hf)
theorem c5_joinStarts_l5 {G : MG} {l : Launch} {a : List PV} {r : Int × Mu} {Kf : Int × Mu → Option (Int × Mu)} (v1 : Int) (v2 : Int) (hK0 : ∀ q : Int × Mu, Kf q = some r → J5 G l D5_joinStarts a (some (pI r.1)) r.2 q.2 155 [(0, pR (some G.1)), (3, pL q.1)] []) : ∀ (n : Nat) (v3 : Int) (v5 : Int) (u : Mu), ((m5_joinStarts_l5 v1 v2 n v3 v5 u).bind Kf = some r) → J5 G l D5_joinStarts a (some (pI r.1)) r.2 u 5 [(0, pR (some G.1)), (1, pI v1), (2, pI v2), (3, pL v3), (5, pI v5)] [] := by
  intro n
  induction n with
  | zero => intro v3 v5 u hf; exact onb hf
  | succ n ih =>
    intro v3 v5 u hf
    unfold m5_joinStarts_l5 at hf
    refine j_iload dX5_joinStarts_5 4 rfl ?_
    refine j_aload_n dX5_joinStarts_7 0 rfl ?_
    refine m_geta mf_12 rfl dX5_joinStarts_8 ?_
    refine j_iload_n dX5_joinStarts_11 1 rfl ?_
    obtain ⟨x1, hx1, hf⟩ := obb hf
    refine m_iald mr_12 hx1 dX5_joinStarts_12 ?_
    refine j_icmp_ge (w32 v5) (w32 x1) rfl rfl 155 dX5_joinStarts_13 (by decide) (fun h7 => ?_) (fun h7 => ?_)
    · replace hf := itb h7 hf
      exact j_sub [0, 3] _ rfl (hK0 (v3, u) hf)
    · replace hf := ieb h7 hf
      refine j_aload_n dX5_joinStarts_16 0 rfl ?_
      refine m_geta mf_64 rfl dX5_joinStarts_17 ?_
      refine j_iload dX5_joinStarts_20 4 rfl ?_
      refine j_iconst dX5_joinStarts_22 ?_
      obtain ⟨u2, hu2, hf⟩ := obb hf
      refine m_iast mr_64 hu2 dX5_joinStarts_23 ?_
      refine j_iconst dX5_joinStarts_24 ?_
      refine j_istore dX5_joinStarts_25 [(6, pI 0), (0, pR (some G.1)), (1, pI v1), (2, pI v2), (3, pL v3), (5, pI v5)] (Nat.le_of_ble_eq_true rfl) rfl ?_
      replace hf := oba hf
      refine j_sub [1, 2, 3, 4, 5, 0] _ rfl (c5_joinStarts_l27 v1 v2 v3 v5 ?_ NN 0 u2 hf)
      · intro q3 hf
        refine j_iconst dX5_joinStarts_75 ?_
        refine j_istore dX5_joinStarts_76 [(6, pI 0), (0, pR (some G.1)), (1, pI v1), (2, pI v2), (3, pL v3), (5, pI v5)] (Nat.le_of_ble_eq_true rfl) rfl ?_
        replace hf := oba hf
        refine j_sub [1, 2, 3, 4, 5, 0] _ rfl (c5_joinStarts_l78 v1 v2 v3 v5 ?_ NN 0 q3 hf)
        · intro q4 hf
          refine j_lload_n dX5_joinStarts_126 3 rfl ?_
          refine j_ldc2 (z := 1000000) q2365 (by decide) dX5_joinStarts_127 ?_
          refine j_lc_le 138 dX5_joinStarts_130 dX5_joinStarts_131 (by decide) (fun h6 => ?_) (fun h6 => ?_)
          · replace hf := itb h6 hf
            refine j_lload_n dX5_joinStarts_138 3 rfl ?_
            refine j_aload_n dX5_joinStarts_139 0 rfl ?_
            refine m_geta mf_64 rfl dX5_joinStarts_140 ?_
            refine j_iload dX5_joinStarts_143 4 rfl ?_
            obtain ⟨x5, hx5, hf⟩ := obb hf
            refine m_iald mr_64 hx5 dX5_joinStarts_145 ?_
            refine j_i2l dX5_joinStarts_146 ?_
            refine j_lmul dX5_joinStarts_147 ?_
            refine j_lstore_n dX5_joinStarts_148 [(3, pL (v3 * (w32 x5))), (0, pR (some G.1)), (1, pI v1), (2, pI v2), (5, pI v5)] (Nat.le_of_ble_eq_true rfl) rfl ?_
            refine j_iinc dX5_joinStarts_149 4 rfl [(5, pI (v5 + 1)), (3, pL (v3 * (w32 x5))), (0, pR (some G.1)), (1, pI v1), (2, pI v2)] (Nat.le_of_ble_eq_true rfl) rfl ?_
            refine j_goto 5 dX5_joinStarts_152 (by decide) ?_
            exact j_sub [2, 3, 4, 1, 0] _ rfl (ih (v3 * (w32 x5)) (v5 + 1) q4 hf)
          · replace hf := ieb h6 hf
            refine j_lload_n dX5_joinStarts_134 3 rfl ?_
            refine j_goto 148 dX5_joinStarts_135 (by decide) ?_
            refine j_lstore_n dX5_joinStarts_148 [(3, pL v3), (0, pR (some G.1)), (1, pI v1), (2, pI v2), (5, pI v5)] (Nat.le_of_ble_eq_true rfl) rfl ?_
            refine j_iinc dX5_joinStarts_149 4 rfl [(5, pI (v5 + 1)), (3, pL v3), (0, pR (some G.1)), (1, pI v1), (2, pI v2)] (Nat.le_of_ble_eq_true rfl) rfl ?_
            refine j_goto 5 dX5_joinStarts_152 (by decide) ?_
            exact j_sub [2, 3, 4, 1, 0] _ rfl (ih v3 (v5 + 1) q4 hf)
theorem c5_joinStarts_b171 {G : MG} {l : Launch} {a : List PV} {r : Int × Mu} (v3 : Int) (s1 : Int) (u : Mu) (hf : m5_joinStarts_b171 v3 s1 u = some r) : J5 G l D5_joinStarts a (some (pI r.1)) r.2 u 171 [(3, pL v3)] [pL s1, pR (some G.1)] := by
  unfold m5_joinStarts_b171 at hf
  refine j_l2i dX5_joinStarts_171 ?_
  obtain ⟨u1, hu1, hf⟩ := ob hf
  refine m_puti_ hu1 mf_65 mfw_65 rfl dX5_joinStarts_172 ?_
  refine j_lload_n dX5_joinStarts_175 0 rfl ?_
  refine j_ldc2 (z := 20000) q2432 (by decide) dX5_joinStarts_176 ?_
  refine j_lc_gt 187 dX5_joinStarts_179 dX5_joinStarts_180 (by decide) (fun h2 => ?_) (fun h2 => ?_)
  · replace hf := it h2 hf
    refine j_iconst dX5_joinStarts_187 ?_
    replace hf := Option.some.inj hf
    subst hf
    exact j_zreturn (x := 0) (bM_mv G) ⟨Nat.le_refl 0, Nat.le_refl 0⟩ (ty := .boolean) rfl (nar_z (Or.inl rfl)) dX5_joinStarts_188
  · replace hf := ie h2 hf
    refine j_iconst dX5_joinStarts_183 ?_
    refine j_goto 188 dX5_joinStarts_184 (by decide) ?_
    replace hf := Option.some.inj hf
    subst hf
    exact j_zreturn (x := 1) (bM_mv G) ⟨Nat.le_refl 0, Nat.le_refl 0⟩ (ty := .boolean) rfl (nar_z (Or.inr rfl)) dX5_joinStarts_188
theorem c5_joinStarts {G : MG} {l : Launch} {r : Int × Mu} (v1 : Int) (v2 : Int) (u : Mu) (hf : m5_joinStarts v1 v2 u = some r) : JM kT (bM G) (aM G) l yX5_joinStarts D5_joinStarts [pR (some G.1), pI v1, pI v2] u (some (pI r.1)) r.2 0 0 := by
  refine j_met (lv0 := [(0, pR (some G.1)), (1, pI v1), (2, pI v2)]) ⟨pl_X5, rfl, rfl, (Nat.le_of_ble_eq_true rfl), rfl⟩ ?_
  unfold m5_joinStarts at hf
  refine j_lconst (z := 1) dX5_joinStarts_0 rfl ?_
  refine j_lstore_n dX5_joinStarts_1 [(3, pL 1), (0, pR (some G.1)), (1, pI v1), (2, pI v2)] (Nat.le_of_ble_eq_true rfl) rfl ?_
  refine j_iconst dX5_joinStarts_2 ?_
  refine j_istore dX5_joinStarts_3 [(5, pI 0), (3, pL 1), (0, pR (some G.1)), (1, pI v1), (2, pI v2)] (Nat.le_of_ble_eq_true rfl) rfl ?_
  refine j_sub [2, 3, 4, 1, 0] _ rfl (c5_joinStarts_l5 v1 v2 ?_ NN 1 0 u hf)
  · intro q1 hf
    refine j_aload_n dX5_joinStarts_155 0 rfl ?_
    refine j_lload_n dX5_joinStarts_156 1 rfl ?_
    refine j_ldc2 (z := 1000000) q2365 (by decide) dX5_joinStarts_157 ?_
    refine j_lc_le 170 dX5_joinStarts_160 dX5_joinStarts_161 (by decide) (fun h2 => ?_) (fun h2 => ?_)
    · replace hf := it h2 hf
      refine j_lload_n dX5_joinStarts_170 1 rfl ?_
      exact j_sub [1] _ rfl (c5_joinStarts_b171 q1.1 q1.1 q1.2 hf)
    · replace hf := ie h2 hf
      refine j_ldc2 (z := 1000001) q2431 (by decide) dX5_joinStarts_164 ?_
      refine j_goto 171 dX5_joinStarts_167 (by decide) ?_
      exact j_sub [1] _ rfl (c5_joinStarts_b171 q1.1 1000001 q1.2 hf)
theorem c5_takeBoth_l7 {G : MG} {l : Launch} {a : List PV} {r : Mu} {Kf : Mu → Option (Mu)} (hK0 : ∀ q : Mu, Kf q = some r → J5 G l D5_takeBoth a none r q 56 [] []) : ∀ (n : Nat) (v3 : Int) (v4 : Int) (u : Mu), ((m5_takeBoth_l7 n v3 v4 u).bind Kf = some r) → J5 G l D5_takeBoth a none r u 7 [(0, pR (some G.1)), (3, pI v3), (4, pI v4)] [] := by
  intro n
  induction n with
  | zero => intro v3 v4 u hf; exact onb hf
  | succ n ih =>
    intro v3 v4 u hf
    unfold m5_takeBoth_l7 at hf
    refine j_iload dX5_takeBoth_7 2 rfl ?_
    refine j_if_lt (w32 v4) rfl 56 dX5_takeBoth_9 (by decide) (fun h7 => ?_) (fun h7 => ?_)
    · replace hf := itb h7 hf
      exact j_sub [] _ rfl (hK0 u hf)
    · replace hf := ieb h7 hf
      refine j_aload_n dX5_takeBoth_12 0 rfl ?_
      refine m_geta mf_59 rfl dX5_takeBoth_13 ?_
      refine j_iload dX5_takeBoth_16 2 rfl ?_
      refine j_aload_n dX5_takeBoth_18 0 rfl ?_
      refine m_geta mf_63 rfl dX5_takeBoth_19 ?_
      refine j_sipush dX5_takeBoth_22 (by decide) ?_
      refine j_iload dX5_takeBoth_25 2 rfl ?_
      refine j_imul dX5_takeBoth_27 ?_
      refine j_iload_n dX5_takeBoth_28 1 rfl ?_
      refine j_aload_n dX5_takeBoth_29 0 rfl ?_
      refine m_geta mf_64 rfl dX5_takeBoth_30 ?_
      refine j_iload dX5_takeBoth_33 2 rfl ?_
      obtain ⟨x1, hx1, hf⟩ := obb hf
      refine m_iald mr_64 hx1 dX5_takeBoth_35 ?_
      rcases Decidable.em (w32 x1 = 0) with h2 | h2
      · exact onb (itb h2 hf)
      · replace hf := ieb h2 hf
        refine j_irem dX5_takeBoth_36 h2 ?_
        refine j_iadd dX5_takeBoth_37 ?_
        obtain ⟨x3, hx3, hf⟩ := obb hf
        refine m_iald mr_63 hx3 dX5_takeBoth_38 ?_
        obtain ⟨u4, hu4, hf⟩ := obb hf
        refine m_iast mr_59 hu4 dX5_takeBoth_39 ?_
        refine j_iload_n dX5_takeBoth_40 1 rfl ?_
        refine j_aload_n dX5_takeBoth_41 0 rfl ?_
        refine m_geta mf_64 rfl dX5_takeBoth_42 ?_
        refine j_iload dX5_takeBoth_45 2 rfl ?_
        obtain ⟨x5, hx5, hf⟩ := obb hf
        refine m_iald mr_64 hx5 dX5_takeBoth_47 ?_
        rcases Decidable.em (w32 x5 = 0) with h6 | h6
        · exact onb (itb h6 hf)
        · replace hf := ieb h6 hf
          refine j_idiv dX5_takeBoth_48 h6 ?_
          refine j_istore_n dX5_takeBoth_49 [(3, pI (div32 v3 x5)), (0, pR (some G.1)), (4, pI v4)] (Nat.le_of_ble_eq_true rfl) rfl ?_
          refine j_iinc dX5_takeBoth_50 2 rfl [(4, pI (v4 + (-1))), (3, pI (div32 v3 x5)), (0, pR (some G.1))] (Nat.le_of_ble_eq_true rfl) rfl ?_
          refine j_goto 7 dX5_takeBoth_53 (by decide) ?_
          exact j_sub [2, 1, 0] _ rfl (ih (div32 v3 x5) (v4 + (-1)) u4 hf)
theorem c5_takeBoth {G : MG} {l : Launch} {r : Mu} (v1 : Int) (v2 : Int) (u : Mu) (hf : m5_takeBoth v1 v2 u = some r) : JM kT (bM G) (aM G) l yX5_takeBoth D5_takeBoth [pR (some G.1), pI v1, pI v2] u none r 0 0 := by
  refine j_met (lv0 := [(0, pR (some G.1)), (1, pI v1), (2, pI v2)]) ⟨pl_X5, rfl, rfl, (Nat.le_of_ble_eq_true rfl), rfl⟩ ?_
  unfold m5_takeBoth at hf
  refine j_iload_n dX5_takeBoth_0 2 rfl ?_
  refine j_istore_n dX5_takeBoth_1 [(3, pI v2), (0, pR (some G.1)), (1, pI v1), (2, pI v2)] (Nat.le_of_ble_eq_true rfl) rfl ?_
  refine j_iload_n dX5_takeBoth_2 2 rfl ?_
  refine j_iconst dX5_takeBoth_3 ?_
  refine j_isub dX5_takeBoth_4 ?_
  refine j_istore dX5_takeBoth_5 [(4, pI (v1 - 1)), (3, pI v2), (0, pR (some G.1)), (1, pI v1), (2, pI v2)] (Nat.le_of_ble_eq_true rfl) rfl ?_
  refine j_sub [2, 1, 0] _ rfl (c5_takeBoth_l7 ?_ NN v2 (v1 - 1) u hf)
  · intro q1 hf
    replace hf := Option.some.inj hf
    subst hf
    exact j_return (bM_mv G) ⟨Nat.le_refl 0, Nat.le_refl 0⟩ rfl dX5_takeBoth_56
theorem c5_compare_l158 {G : MG} {l : Launch} {a : List PV} {r : Int × Mu} {Kf : Mu → Option (Int × Mu)} (v1 : Int) (v2 : Int) (v3 : Int) (v6 : Int) (hK0 : ∀ q : Mu, Kf q = some r → J5 G l D5_compare a (some (pI r.1)) r.2 q 195 [(0, pR (some G.1)), (1, pI v1), (2, pI v2), (3, pI v3)] []) : ∀ (n : Nat) (v7 : Int) (u : Mu), ((m5_compare_l158 v1 v2 v3 v6 n v7 u).bind Kf = some r) → J5 G l D5_compare a (some (pI r.1)) r.2 u 158 [(0, pR (some G.1)), (1, pI v1), (2, pI v2), (3, pI v3), (6, pI v6), (7, pI v7)] [] := by
  intro n
  induction n with
  | zero => intro v7 u hf; exact onb hf
  | succ n ih =>
    intro v7 u hf
    unfold m5_compare_l158 at hf
    refine j_iload dX5_compare_158 5 rfl ?_
    refine j_aload_n dX5_compare_160 0 rfl ?_
    refine m_geta mf_12 rfl dX5_compare_161 ?_
    refine j_iload_n dX5_compare_164 1 rfl ?_
    obtain ⟨x1, hx1, hf⟩ := obb hf
    refine m_iald mr_12 hx1 dX5_compare_165 ?_
    refine j_icmp_ge (w32 v7) (w32 x1) rfl rfl 195 dX5_compare_166 (by decide) (fun h4 => ?_) (fun h4 => ?_)
    · replace hf := itb h4 hf
      exact j_sub [0, 1, 2, 3] _ rfl (hK0 u hf)
    · replace hf := ieb h4 hf
      refine j_aload_n dX5_compare_169 0 rfl ?_
      refine m_geta mf_66 rfl dX5_compare_170 ?_
      refine j_bipush dX5_compare_173 (by decide) ?_
      refine j_iload dX5_compare_175 4 rfl ?_
      refine j_imul dX5_compare_177 ?_
      refine j_iload dX5_compare_178 5 rfl ?_
      refine j_iadd dX5_compare_180 ?_
      refine j_aload_n dX5_compare_181 0 rfl ?_
      refine m_geta mf_59 rfl dX5_compare_182 ?_
      refine j_iload dX5_compare_185 5 rfl ?_
      obtain ⟨x2, hx2, hf⟩ := obb hf
      refine m_iald mr_59 hx2 dX5_compare_187 ?_
      obtain ⟨u3, hu3, hf⟩ := obb hf
      refine m_iast mr_66 hu3 dX5_compare_188 ?_
      refine j_iinc dX5_compare_189 5 rfl [(7, pI (v7 + 1)), (0, pR (some G.1)), (1, pI v1), (2, pI v2), (3, pI v3), (6, pI v6)] (Nat.le_of_ble_eq_true rfl) rfl ?_
      refine j_goto 158 dX5_compare_192 (by decide) ?_
      exact j_sub [1, 2, 3, 4, 5, 0] _ rfl (ih (v7 + 1) u3 hf)
theorem c5_compare_b125 {G : MG} {l : Launch} {a : List PV} {r : Int × Mu} {Kf : Mu → Option (Int × Mu)} {v1 : Int} {v2 : Int} (kh : Int → Mu → Option (Mu)) (hkh : ∀ (z3 : Int) (zu : Mu), ((kh z3 zu).bind Kf = some r) → J5 G l D5_compare a (some (pI r.1)) r.2 zu 63 [(0, pR (some G.1)), (1, pI v1), (2, pI v2), (3, pI z3)] []) (hK0 : ∀ q : Mu, Kf q = some r → J5 G l D5_compare a (some (pI r.1)) r.2 q 201 [(0, pR (some G.1))] []) (v3 : Int) (s0 : Int) (u : Mu) (hf : (m5_compare_b125 kh v1 v2 v3 s0 u).bind Kf = some r) : J5 G l D5_compare a (some (pI r.1)) r.2 u 125 [(0, pR (some G.1)), (1, pI v1), (2, pI v2), (3, pI v3)] [pI s0] := by
  unfold m5_compare_b125 at hf
  refine j_istore dX5_compare_125 [(6, pI s0), (0, pR (some G.1)), (1, pI v1), (2, pI v2), (3, pI v3)] (Nat.le_of_ble_eq_true rfl) rfl ?_
  refine j_iload dX5_compare_127 0 rfl ?_
  refine j_if_lt (w32 s0) rfl 195 dX5_compare_129 (by decide) (fun h6 => ?_) (fun h6 => ?_)
  · replace hf := itb h6 hf
    refine j_iinc dX5_compare_195 4 rfl [(3, pI (v3 + 1)), (6, pI s0), (0, pR (some G.1)), (1, pI v1), (2, pI v2)] (Nat.le_of_ble_eq_true rfl) rfl ?_
    refine j_goto 63 dX5_compare_198 (by decide) ?_
    exact j_sub [2, 3, 4, 0] _ rfl (hkh (v3 + 1) u hf)
  · replace hf := ieb h6 hf
    refine j_aload_n dX5_compare_132 1 rfl ?_
    refine m_geta mf_67 rfl dX5_compare_133 ?_
    refine j_iload dX5_compare_136 0 rfl ?_
    obtain ⟨x1, hx1, hf⟩ := obb hf
    refine m_iald mr_67 hx1 dX5_compare_138 ?_
    refine j_if_ge (w32 x1) rfl 195 dX5_compare_139 (by decide) (fun h5 => ?_) (fun h5 => ?_)
    · replace hf := itb h5 hf
      refine j_iinc dX5_compare_195 4 rfl [(3, pI (v3 + 1)), (6, pI s0), (0, pR (some G.1)), (1, pI v1), (2, pI v2)] (Nat.le_of_ble_eq_true rfl) rfl ?_
      refine j_goto 63 dX5_compare_198 (by decide) ?_
      exact j_sub [2, 3, 4, 0] _ rfl (hkh (v3 + 1) u hf)
    · replace hf := ieb h5 hf
      refine j_aload_n dX5_compare_142 1 rfl ?_
      refine m_geta mf_67 rfl dX5_compare_143 ?_
      refine j_iload dX5_compare_146 0 rfl ?_
      refine j_aload_n dX5_compare_148 1 rfl ?_
      refine m_geta mf_12 rfl dX5_compare_149 ?_
      refine j_iload_n dX5_compare_152 2 rfl ?_
      obtain ⟨x2, hx2, hf⟩ := obb hf
      refine m_iald mr_12 hx2 dX5_compare_153 ?_
      obtain ⟨u3, hu3, hf⟩ := obb hf
      refine m_iast mr_67 hu3 dX5_compare_154 ?_
      refine j_iconst dX5_compare_155 ?_
      refine j_istore dX5_compare_156 [(7, pI 0), (6, pI s0), (0, pR (some G.1)), (1, pI v1), (2, pI v2), (3, pI v3)] (Nat.le_of_ble_eq_true rfl) rfl ?_
      replace hf := oba hf
      refine j_sub [2, 3, 4, 5, 1, 0] _ rfl (c5_compare_l158 v1 v2 v3 s0 ?_ NN 0 u3 hf)
      · intro q4 hf
        refine j_iinc dX5_compare_195 3 rfl [(3, pI (v3 + 1)), (0, pR (some G.1)), (1, pI v1), (2, pI v2)] (Nat.le_of_ble_eq_true rfl) rfl ?_
        refine j_goto 63 dX5_compare_198 (by decide) ?_
        exact j_sub [1, 2, 3, 0] _ rfl (hkh (v3 + 1) q4 hf)
theorem c5_compare_b124 {G : MG} {l : Launch} {a : List PV} {r : Int × Mu} {Kf : Mu → Option (Int × Mu)} {v1 : Int} {v2 : Int} (kh : Int → Mu → Option (Mu)) (hkh : ∀ (z3 : Int) (zu : Mu), ((kh z3 zu).bind Kf = some r) → J5 G l D5_compare a (some (pI r.1)) r.2 zu 63 [(0, pR (some G.1)), (1, pI v1), (2, pI v2), (3, pI z3)] []) (hK0 : ∀ q : Mu, Kf q = some r → J5 G l D5_compare a (some (pI r.1)) r.2 q 201 [(0, pR (some G.1))] []) (v3 : Int) (u : Mu) (hf : (m5_compare_b124 kh v1 v2 v3 u).bind Kf = some r) : J5 G l D5_compare a (some (pI r.1)) r.2 u 124 [(0, pR (some G.1)), (1, pI v1), (2, pI v2), (3, pI v3)] [] := by
  unfold m5_compare_b124 at hf
  refine j_iconst dX5_compare_124 ?_
  exact j_sub [0, 1, 2, 3] _ rfl (c5_compare_b125 (kh) hkh hK0 v3 (-1) u hf)
theorem c5_compare_b110 {G : MG} {l : Launch} {a : List PV} {r : Int × Mu} {Kf : Mu → Option (Int × Mu)} {v1 : Int} {v2 : Int} (kh : Int → Mu → Option (Mu)) (hkh : ∀ (z3 : Int) (zu : Mu), ((kh z3 zu).bind Kf = some r) → J5 G l D5_compare a (some (pI r.1)) r.2 zu 63 [(0, pR (some G.1)), (1, pI v1), (2, pI v2), (3, pI z3)] []) (hK0 : ∀ q : Mu, Kf q = some r → J5 G l D5_compare a (some (pI r.1)) r.2 q 201 [(0, pR (some G.1))] []) (v3 : Int) (v4 : Int) (v5 : Int) (u : Mu) (hf : (m5_compare_b110 kh v1 v2 v3 v4 v5 u).bind Kf = some r) : J5 G l D5_compare a (some (pI r.1)) r.2 u 110 [(0, pR (some G.1)), (1, pI v1), (2, pI v2), (3, pI v3), (4, pI v4), (5, pI v5)] [] := by
  unfold m5_compare_b110 at hf
  refine j_iload dX5_compare_110 5 rfl ?_
  refine j_if_eq (w32 v5) rfl 124 dX5_compare_112 (by decide) (fun h2 => ?_) (fun h2 => ?_)
  · replace hf := itb h2 hf
    exact j_sub [0, 1, 2, 3] _ rfl (c5_compare_b124 (kh) hkh hK0 v3 u hf)
  · replace hf := ieb h2 hf
    refine j_iload dX5_compare_115 4 rfl ?_
    refine j_if_ne (w32 v4) rfl 124 dX5_compare_117 (by decide) (fun h1 => ?_) (fun h1 => ?_)
    · replace hf := ieb h1 hf
      exact j_sub [0, 1, 2, 3] _ rfl (c5_compare_b124 (kh) hkh hK0 v3 u hf)
    · replace hf := itb h1 hf
      refine j_iconst dX5_compare_120 ?_
      refine j_goto 125 dX5_compare_121 (by decide) ?_
      exact j_sub [0, 1, 2, 3] _ rfl (c5_compare_b125 (kh) hkh hK0 v3 1 u hf)
theorem c5_compare_l63 {G : MG} {l : Launch} {a : List PV} {r : Int × Mu} {Kf : Mu → Option (Int × Mu)} (v1 : Int) (v2 : Int) (hK0 : ∀ q : Mu, Kf q = some r → J5 G l D5_compare a (some (pI r.1)) r.2 q 201 [(0, pR (some G.1))] []) : ∀ (n : Nat) (v3 : Int) (u : Mu), ((m5_compare_l63 v1 v2 n v3 u).bind Kf = some r) → J5 G l D5_compare a (some (pI r.1)) r.2 u 63 [(0, pR (some G.1)), (1, pI v1), (2, pI v2), (3, pI v3)] [] := by
  intro n
  induction n with
  | zero => intro v3 u hf; exact onb hf
  | succ n ih =>
    intro v3 u hf
    unfold m5_compare_l63 at hf
    refine j_iload_n dX5_compare_63 3 rfl ?_
    refine j_aload_n dX5_compare_64 0 rfl ?_
    refine m_geti mf_65 rfl dX5_compare_65 ?_
    refine j_icmp_ge (w32 v3) (w32 (u.1 65)) rfl rfl 201 dX5_compare_68 (by decide) (fun h7 => ?_) (fun h7 => ?_)
    · replace hf := itb h7 hf
      exact j_sub [0] _ rfl (hK0 u hf)
    · replace hf := ieb h7 hf
      refine j_aload_n dX5_compare_71 0 rfl ?_
      refine j_aload_n dX5_compare_72 0 rfl ?_
      refine m_geta mf_12 rfl dX5_compare_73 ?_
      refine j_iload_n dX5_compare_76 1 rfl ?_
      obtain ⟨x1, hx1, hf⟩ := obb hf
      refine m_iald mr_12 hx1 dX5_compare_77 ?_
      refine j_iload_n dX5_compare_78 3 rfl ?_
      obtain ⟨u2, hu2, hf⟩ := obb hf
      refine j_cVv [pI x1, pI v3] [] kT_v (bM_mv G) (c5_takeBoth x1 v3 u hu2) wv5_takeBoth dv5_takeBoth rfl ⟨(Nat.le_of_ble_eq_true rfl), (Nat.le_of_ble_eq_true rfl)⟩ (m_recv u) rfl (Nat.le_of_ble_eq_true rfl) dX5_compare_79 ⟨Nat.le_refl 0, Nat.le_refl 0⟩ ?_
      refine j_aload_n dX5_compare_82 0 rfl ?_
      refine j_iload_n dX5_compare_83 1 rfl ?_
      obtain ⟨x3, hx3, hf⟩ := obb hf
      refine j_cVr [pI v1] [] kT_v (bM_mv G) (c5_answerOf v1 u2 hx3) wv5_answerOf dv5_answerOf rfl ⟨(Nat.le_of_ble_eq_true rfl), (Nat.le_of_ble_eq_true rfl)⟩ (m_recv u2) rfl (Nat.le_of_ble_eq_true rfl) dX5_compare_84 ⟨Nat.le_refl 0, Nat.le_refl 0⟩ ?_
      refine j_istore dX5_compare_87 [(4, pI x3), (0, pR (some G.1)), (1, pI v1), (2, pI v2), (3, pI v3)] (Nat.le_of_ble_eq_true rfl) rfl ?_
      refine j_aload_n dX5_compare_89 1 rfl ?_
      refine j_iload_n dX5_compare_90 3 rfl ?_
      obtain ⟨x4, hx4, hf⟩ := obb hf
      refine j_cVr [pI v2] [] kT_v (bM_mv G) (c5_answerOf v2 u2 hx4) wv5_answerOf dv5_answerOf rfl ⟨(Nat.le_of_ble_eq_true rfl), (Nat.le_of_ble_eq_true rfl)⟩ (m_recv u2) rfl (Nat.le_of_ble_eq_true rfl) dX5_compare_91 ⟨Nat.le_refl 0, Nat.le_refl 0⟩ ?_
      refine j_istore dX5_compare_94 [(5, pI x4), (4, pI x3), (0, pR (some G.1)), (1, pI v1), (2, pI v2), (3, pI v3)] (Nat.le_of_ble_eq_true rfl) rfl ?_
      refine j_iload dX5_compare_96 1 rfl ?_
      refine j_if_eq (w32 x3) rfl 110 dX5_compare_98 (by decide) (fun h6 => ?_) (fun h6 => ?_)
      · replace hf := itb h6 hf
        exact j_sub [2, 3, 4, 5, 1, 0] _ rfl (c5_compare_b110 (m5_compare_l63 v1 v2 n) ih hK0 v3 x3 x4 u2 hf)
      · replace hf := ieb h6 hf
        refine j_iload dX5_compare_101 0 rfl ?_
        refine j_if_ne (w32 x4) rfl 110 dX5_compare_103 (by decide) (fun h5 => ?_) (fun h5 => ?_)
        · replace hf := ieb h5 hf
          exact j_sub [2, 3, 4, 5, 1, 0] _ rfl (c5_compare_b110 (m5_compare_l63 v1 v2 n) ih hK0 v3 x3 x4 u2 hf)
        · replace hf := itb h5 hf
          refine j_iconst dX5_compare_106 ?_
          refine j_goto 125 dX5_compare_107 (by decide) ?_
          exact j_sub [2, 3, 4, 5] _ rfl (c5_compare_b125 (m5_compare_l63 v1 v2 n) ih hK0 v3 0 u2 hf)
theorem c5_compare {G : MG} {l : Launch} {r : Int × Mu} (v1 : Int) (v2 : Int) (u : Mu) (hf : m5_compare v1 v2 u = some r) : JM kT (bM G) (aM G) l yX5_compare D5_compare [pR (some G.1), pI v1, pI v2] u (some (pI r.1)) r.2 0 0 := by
  refine j_met (lv0 := [(0, pR (some G.1)), (1, pI v1), (2, pI v2)]) ⟨pl_X5, rfl, rfl, (Nat.le_of_ble_eq_true rfl), rfl⟩ ?_
  unfold m5_compare at hf
  refine j_aload_n dX5_compare_0 0 rfl ?_
  refine j_iload_n dX5_compare_1 1 rfl ?_
  obtain ⟨x1, hx1, hf⟩ := ob hf
  refine j_cVr [pI v1] [] kT_v (bM_mv G) (c5_isWording v1 u hx1) wv5_isWording dv5_isWording rfl ⟨(Nat.le_of_ble_eq_true rfl), (Nat.le_of_ble_eq_true rfl)⟩ (m_recv u) rfl (Nat.le_of_ble_eq_true rfl) dX5_compare_2 ⟨Nat.le_refl 0, Nat.le_refl 0⟩ ?_
  refine j_if_eq (w32 x1) rfl 16 dX5_compare_5 (by decide) (fun h18 => ?_) (fun h18 => ?_)
  · replace hf := it h18 hf
    refine j_iconst dX5_compare_16 ?_
    replace hf := Option.some.inj hf
    subst hf
    exact j_ireturn (bM_mv G) ⟨Nat.le_refl 0, Nat.le_refl 0⟩ rfl dX5_compare_17
  · replace hf := ie h18 hf
    refine j_aload_n dX5_compare_8 0 rfl ?_
    refine j_iload_n dX5_compare_9 2 rfl ?_
    obtain ⟨x2, hx2, hf⟩ := ob hf
    refine j_cVr [pI v2] [] kT_v (bM_mv G) (c5_isWording v2 u hx2) wv5_isWording dv5_isWording rfl ⟨(Nat.le_of_ble_eq_true rfl), (Nat.le_of_ble_eq_true rfl)⟩ (m_recv u) rfl (Nat.le_of_ble_eq_true rfl) dX5_compare_10 ⟨Nat.le_refl 0, Nat.le_refl 0⟩ ?_
    refine j_if_ne (w32 x2) rfl 18 dX5_compare_13 (by decide) (fun h17 => ?_) (fun h17 => ?_)
    · replace hf := ie h17 hf
      refine j_aload_n dX5_compare_18 0 rfl ?_
      refine j_iload_n dX5_compare_19 1 rfl ?_
      refine j_iload_n dX5_compare_20 2 rfl ?_
      obtain ⟨x3, hx3, hf⟩ := ob hf
      refine j_cVr [pI v1, pI v2] [] kT_v (bM_mv G) (c5_isComparable v1 v2 u hx3) wv5_isComparable dv5_isComparable rfl ⟨(Nat.le_of_ble_eq_true rfl), (Nat.le_of_ble_eq_true rfl)⟩ (m_recv u) rfl (Nat.le_of_ble_eq_true rfl) dX5_compare_21 ⟨Nat.le_refl 0, Nat.le_refl 0⟩ ?_
      refine j_if_ne (w32 x3) rfl 30 dX5_compare_24 (by decide) (fun h16 => ?_) (fun h16 => ?_)
      · replace hf := ie h16 hf
        refine j_aload_n dX5_compare_30 0 rfl ?_
        refine j_iload_n dX5_compare_31 1 rfl ?_
        refine j_iload_n dX5_compare_32 2 rfl ?_
        obtain ⟨q4, hq4, hf⟩ := ob hf
        refine j_cVr [pI v1, pI v2] [] kT_v (bM_mv G) (c5_joinStarts v1 v2 u hq4) wv5_joinStarts dv5_joinStarts rfl ⟨(Nat.le_of_ble_eq_true rfl), (Nat.le_of_ble_eq_true rfl)⟩ (m_recv u) rfl (Nat.le_of_ble_eq_true rfl) dX5_compare_33 ⟨Nat.le_refl 0, Nat.le_refl 0⟩ ?_
        refine j_if_ne (w32 q4.1) rfl 42 dX5_compare_36 (by decide) (fun h15 => ?_) (fun h15 => ?_)
        · replace hf := ie h15 hf
          refine j_aload_n dX5_compare_42 0 rfl ?_
          refine m_geta mf_67 rfl dX5_compare_43 ?_
          refine j_iconst dX5_compare_46 ?_
          refine j_iconst dX5_compare_47 ?_
          obtain ⟨u5, hu5, hf⟩ := ob hf
          refine m_iast mr_67 hu5 dX5_compare_48 ?_
          refine j_aload_n dX5_compare_49 0 rfl ?_
          refine m_geta mf_67 rfl dX5_compare_50 ?_
          refine j_iconst dX5_compare_53 ?_
          refine j_iconst dX5_compare_54 ?_
          obtain ⟨u6, hu6, hf⟩ := ob hf
          refine m_iast mr_67 hu6 dX5_compare_55 ?_
          refine j_aload_n dX5_compare_56 0 rfl ?_
          refine j_iconst dX5_compare_57 ?_
          obtain ⟨u7, hu7, hf⟩ := ob hf
          refine m_putz_ hu7 ⟨rfl, rfl⟩ mf_68 mfw_68 rfl dX5_compare_58 ?_
          refine j_iconst dX5_compare_61 ?_
          refine j_istore_n dX5_compare_62 [(3, pI 0), (0, pR (some G.1)), (1, pI v1), (2, pI v2)] (Nat.le_of_ble_eq_true rfl) rfl ?_
          refine j_sub [1, 2, 3, 0] _ rfl (c5_compare_l63 v1 v2 ?_ NN 0 u7 hf)
          · intro q8 hf
            refine j_aload_n dX5_compare_201 0 rfl ?_
            refine m_geta mf_67 rfl dX5_compare_202 ?_
            refine j_iconst dX5_compare_205 ?_
            obtain ⟨x9, hx9, hf⟩ := ob hf
            refine m_iald mr_67 hx9 dX5_compare_206 ?_
            refine j_if_ge (w32 x9) rfl 227 dX5_compare_207 (by decide) (fun h14 => ?_) (fun h14 => ?_)
            · replace hf := it h14 hf
              refine j_aload_n dX5_compare_227 0 rfl ?_
              refine m_geta mf_67 rfl dX5_compare_228 ?_
              refine j_iconst dX5_compare_231 ?_
              obtain ⟨x10, hx10, hf⟩ := ob hf
              refine m_iald mr_67 hx10 dX5_compare_232 ?_
              refine j_if_ge (w32 x10) rfl 240 dX5_compare_233 (by decide) (fun h11 => ?_) (fun h11 => ?_)
              · replace hf := it h11 hf
                refine j_iconst dX5_compare_240 ?_
                replace hf := Option.some.inj hf
                subst hf
                exact j_ireturn (bM_mv G) ⟨Nat.le_refl 0, Nat.le_refl 0⟩ rfl dX5_compare_241
              · replace hf := ie h11 hf
                refine j_iconst dX5_compare_236 ?_
                refine j_goto 241 dX5_compare_237 (by decide) ?_
                replace hf := Option.some.inj hf
                subst hf
                exact j_ireturn (bM_mv G) ⟨Nat.le_refl 0, Nat.le_refl 0⟩ rfl dX5_compare_241
            · replace hf := ie h14 hf
              refine j_aload_n dX5_compare_210 0 rfl ?_
              refine m_geta mf_67 rfl dX5_compare_211 ?_
              refine j_iconst dX5_compare_214 ?_
              obtain ⟨x12, hx12, hf⟩ := ob hf
              refine m_iald mr_67 hx12 dX5_compare_215 ?_
              refine j_if_ge (w32 x12) rfl 223 dX5_compare_216 (by decide) (fun h13 => ?_) (fun h13 => ?_)
              · replace hf := it h13 hf
                refine j_iconst dX5_compare_223 ?_
                refine j_goto 241 dX5_compare_224 (by decide) ?_
                replace hf := Option.some.inj hf
                subst hf
                exact j_ireturn (bM_mv G) ⟨Nat.le_refl 0, Nat.le_refl 0⟩ rfl dX5_compare_241
              · replace hf := ie h13 hf
                refine j_iconst dX5_compare_219 ?_
                refine j_goto 241 dX5_compare_220 (by decide) ?_
                replace hf := Option.some.inj hf
                subst hf
                exact j_ireturn (bM_mv G) ⟨Nat.le_refl 0, Nat.le_refl 0⟩ rfl dX5_compare_241
        · replace hf := it h15 hf
          refine j_bipush dX5_compare_39 (by decide) ?_
          replace hf := Option.some.inj hf
          subst hf
          exact j_ireturn (bM_mv G) ⟨Nat.le_refl 0, Nat.le_refl 0⟩ rfl dX5_compare_41
      · replace hf := it h16 hf
        refine j_bipush dX5_compare_27 (by decide) ?_
        replace hf := Option.some.inj hf
        subst hf
        exact j_ireturn (bM_mv G) ⟨Nat.le_refl 0, Nat.le_refl 0⟩ rfl dX5_compare_29
    · replace hf := it h17 hf
      refine j_iconst dX5_compare_16 ?_
      replace hf := Option.some.inj hf
      subst hf
      exact j_ireturn (bM_mv G) ⟨Nat.le_refl 0, Nat.le_refl 0⟩ rfl dX5_compare_17
theorem c5_apart {G : MG} {l : Launch} {r : Int} (v1 : Int) (v2 : Int) (u : Mu) (hf : m5_apart v1 v2 u = some r) : JM kT (bM G) (aM G) l yX5_apart D5_apart [pR (some G.1), pI v1, pI v2] u (some (pI r)) u 0 0 := by
  refine j_met (lv0 := [(0, pR (some G.1)), (1, pI v1), (2, pI v2)]) ⟨pl_X5, rfl, rfl, (Nat.le_of_ble_eq_true rfl), rfl⟩ ?_
  unfold m5_apart at hf
  refine j_iload_n dX5_apart_0 1 rfl ?_
  refine j_if_lt (w32 v1) rfl 9 dX5_apart_1 (by decide) (fun h9 => ?_) (fun h9 => ?_)
  · replace hf := it h9 hf
    refine j_iconst dX5_apart_9 ?_
    replace hf := Option.some.inj hf
    subst hf
    exact j_ireturn (bM_mv G) ⟨Nat.le_refl 0, Nat.le_refl 0⟩ rfl dX5_apart_10
  · replace hf := ie h9 hf
    refine j_iload_n dX5_apart_4 1 rfl ?_
    refine j_iconst dX5_apart_5 ?_
    refine j_icmp_le (w32 v1) 1 rfl rfl 11 dX5_apart_6 (by decide) (fun h8 => ?_) (fun h8 => ?_)
    · replace hf := it h8 hf
      refine j_aload_n dX5_apart_11 0 rfl ?_
      refine m_getz mf_68 rfl dX5_apart_12 ?_
      refine j_if_eq (w32 (u.1 68)) rfl 27 dX5_apart_15 (by decide) (fun h7 => ?_) (fun h7 => ?_)
      · replace hf := it h7 hf
        refine j_bipush dX5_apart_27 (by decide) ?_
        replace hf := Option.some.inj hf
        subst hf
        exact j_ireturn (bM_mv G) ⟨Nat.le_refl 0, Nat.le_refl 0⟩ rfl dX5_apart_29
      · replace hf := ie h7 hf
        refine j_aload_n dX5_apart_18 0 rfl ?_
        refine m_geta mf_67 rfl dX5_apart_19 ?_
        refine j_iload_n dX5_apart_22 1 rfl ?_
        obtain ⟨x1, hx1, hf⟩ := ob hf
        refine m_iald mr_67 hx1 dX5_apart_23 ?_
        refine j_if_ge (w32 x1) rfl 30 dX5_apart_24 (by decide) (fun h6 => ?_) (fun h6 => ?_)
        · replace hf := it h6 hf
          refine j_iload_n dX5_apart_30 2 rfl ?_
          refine j_if_lt (w32 v2) rfl 58 dX5_apart_31 (by decide) (fun h5 => ?_) (fun h5 => ?_)
          · replace hf := it h5 hf
            refine j_iconst dX5_apart_58 ?_
            replace hf := Option.some.inj hf
            subst hf
            exact j_ireturn (bM_mv G) ⟨Nat.le_refl 0, Nat.le_refl 0⟩ rfl dX5_apart_59
          · replace hf := ie h5 hf
            refine j_iload_n dX5_apart_34 2 rfl ?_
            refine j_aload_n dX5_apart_35 0 rfl ?_
            refine m_geta mf_67 rfl dX5_apart_36 ?_
            refine j_iload_n dX5_apart_39 1 rfl ?_
            obtain ⟨x2, hx2, hf⟩ := ob hf
            refine m_iald mr_67 hx2 dX5_apart_40 ?_
            refine j_icmp_ge (w32 v2) (w32 x2) rfl rfl 58 dX5_apart_41 (by decide) (fun h4 => ?_) (fun h4 => ?_)
            · replace hf := it h4 hf
              refine j_iconst dX5_apart_58 ?_
              replace hf := Option.some.inj hf
              subst hf
              exact j_ireturn (bM_mv G) ⟨Nat.le_refl 0, Nat.le_refl 0⟩ rfl dX5_apart_59
            · replace hf := ie h4 hf
              refine j_aload_n dX5_apart_44 0 rfl ?_
              refine m_geta mf_66 rfl dX5_apart_45 ?_
              refine j_bipush dX5_apart_48 (by decide) ?_
              refine j_iload_n dX5_apart_50 1 rfl ?_
              refine j_imul dX5_apart_51 ?_
              refine j_iload_n dX5_apart_52 2 rfl ?_
              refine j_iadd dX5_apart_53 ?_
              obtain ⟨x3, hx3, hf⟩ := ob hf
              refine m_iald mr_66 hx3 dX5_apart_54 ?_
              refine j_goto 59 dX5_apart_55 (by decide) ?_
              replace hf := Option.some.inj hf
              subst hf
              exact j_ireturn (bM_mv G) ⟨Nat.le_refl 0, Nat.le_refl 0⟩ rfl dX5_apart_59
        · replace hf := ie h6 hf
          refine j_bipush dX5_apart_27 (by decide) ?_
          replace hf := Option.some.inj hf
          subst hf
          exact j_ireturn (bM_mv G) ⟨Nat.le_refl 0, Nat.le_refl 0⟩ rfl dX5_apart_29
    · replace hf := ie h8 hf
      refine j_iconst dX5_apart_9 ?_
      replace hf := Option.some.inj hf
      subst hf
      exact j_ireturn (bM_mv G) ⟨Nat.le_refl 0, Nat.le_refl 0⟩ rfl dX5_apart_10
theorem c5_judge_l130 {G : MG} {l : Launch} {a : List PV} {r : Int × Mu} {Kf : Mu → Option (Int × Mu)} (v1 : Int) (v2 : Int) (hK0 : ∀ q : Mu, Kf q = some r → J5 G l D5_judge a (some (pI r.1)) r.2 q 155 [(0, pR (some G.1)), (1, pI v1), (2, pI v2)] []) : ∀ (n : Nat) (v4 : Int) (u : Mu), ((m5_judge_l130 v1 v2 n v4 u).bind Kf = some r) → J5 G l D5_judge a (some (pI r.1)) r.2 u 130 [(0, pR (some G.1)), (1, pI v1), (2, pI v2), (4, pI v4)] [] := by
  intro n
  induction n with
  | zero => intro v4 u hf; exact onb hf
  | succ n ih =>
    intro v4 u hf
    unfold m5_judge_l130 at hf
    refine j_iload dX5_judge_130 3 rfl ?_
    refine j_aload_n dX5_judge_132 0 rfl ?_
    refine m_geta mf_12 rfl dX5_judge_133 ?_
    refine j_iload_n dX5_judge_136 1 rfl ?_
    obtain ⟨x1, hx1, hf⟩ := obb hf
    refine m_iald mr_12 hx1 dX5_judge_137 ?_
    refine j_icmp_ge (w32 v4) (w32 x1) rfl rfl 155 dX5_judge_138 (by decide) (fun h3 => ?_) (fun h3 => ?_)
    · replace hf := itb h3 hf
      exact j_sub [0, 1, 2] _ rfl (hK0 u hf)
    · replace hf := ieb h3 hf
      refine j_aload_n dX5_judge_141 0 rfl ?_
      refine j_bipush dX5_judge_142 (by decide) ?_
      refine j_iload dX5_judge_144 3 rfl ?_
      obtain ⟨u2, hu2, hf⟩ := obb hf
      refine j_cVv [pI 13, pI v4] [] kT_v (bM_mv G) (c5_findStarts 13 v4 u hu2) wv5_findStarts dv5_findStarts rfl ⟨(Nat.le_of_ble_eq_true rfl), (Nat.le_of_ble_eq_true rfl)⟩ (m_recv u) rfl (Nat.le_of_ble_eq_true rfl) dX5_judge_146 ⟨Nat.le_refl 0, Nat.le_refl 0⟩ ?_
      refine j_iinc dX5_judge_149 3 rfl [(4, pI (v4 + 1)), (0, pR (some G.1)), (1, pI v1), (2, pI v2)] (Nat.le_of_ble_eq_true rfl) rfl ?_
      refine j_goto 130 dX5_judge_152 (by decide) ?_
      exact j_sub [1, 2, 3, 0] _ rfl (ih (v4 + 1) u2 hf)
theorem c5_judge_l279 {G : MG} {l : Launch} {a : List PV} {r : Int × Mu} {Kf : Mu → Option (Int × Mu)} (v1 : Int) (v2 : Int) (v4 : Int) (hK0 : ∀ q : Mu, Kf q = some r → J5 G l D5_judge a (some (pI r.1)) r.2 q 310 [(0, pR (some G.1)), (1, pI v1), (2, pI v2), (4, pI v4)] []) : ∀ (n : Nat) (v7 : Int) (u : Mu), ((m5_judge_l279 v1 v2 v4 n v7 u).bind Kf = some r) → J5 G l D5_judge a (some (pI r.1)) r.2 u 279 [(0, pR (some G.1)), (1, pI v1), (2, pI v2), (4, pI v4), (7, pI v7)] [] := by
  intro n
  induction n with
  | zero => intro v7 u hf; exact onb hf
  | succ n ih =>
    intro v7 u hf
    unfold m5_judge_l279 at hf
    refine j_iload dX5_judge_279 4 rfl ?_
    refine j_aload_n dX5_judge_281 0 rfl ?_
    refine m_geta mf_12 rfl dX5_judge_282 ?_
    refine j_iload_n dX5_judge_285 1 rfl ?_
    obtain ⟨x1, hx1, hf⟩ := obb hf
    refine m_iald mr_12 hx1 dX5_judge_286 ?_
    refine j_icmp_ge (w32 v7) (w32 x1) rfl rfl 310 dX5_judge_287 (by decide) (fun h4 => ?_) (fun h4 => ?_)
    · replace hf := itb h4 hf
      exact j_sub [0, 1, 2, 3] _ rfl (hK0 u hf)
    · replace hf := ieb h4 hf
      refine j_aload_n dX5_judge_290 0 rfl ?_
      refine m_geta mf_69 rfl dX5_judge_291 ?_
      refine j_iload dX5_judge_294 4 rfl ?_
      refine j_aload_n dX5_judge_296 0 rfl ?_
      refine m_geta mf_59 rfl dX5_judge_297 ?_
      refine j_iload dX5_judge_300 4 rfl ?_
      obtain ⟨x2, hx2, hf⟩ := obb hf
      refine m_iald mr_59 hx2 dX5_judge_302 ?_
      obtain ⟨u3, hu3, hf⟩ := obb hf
      refine m_iast mr_69 hu3 dX5_judge_303 ?_
      refine j_iinc dX5_judge_304 4 rfl [(7, pI (v7 + 1)), (0, pR (some G.1)), (1, pI v1), (2, pI v2), (4, pI v4)] (Nat.le_of_ble_eq_true rfl) rfl ?_
      refine j_goto 279 dX5_judge_307 (by decide) ?_
      exact j_sub [1, 2, 3, 4, 0] _ rfl (ih (v7 + 1) u3 hf)
theorem c5_judge_b266 {G : MG} {l : Launch} {a : List PV} {r : Int × Mu} {Kf : Mu → Option (Int × Mu)} {v1 : Int} {v2 : Int} (kh : Int → Mu → Option (Mu)) (hkh : ∀ (z4 : Int) (zu : Mu), ((kh z4 zu).bind Kf = some r) → J5 G l D5_judge a (some (pI r.1)) r.2 zu 176 [(0, pR (some G.1)), (1, pI v1), (2, pI v2), (4, pI z4)] []) (hK0 : ∀ q : Mu, Kf q = some r → J5 G l D5_judge a (some (pI r.1)) r.2 q 316 [(0, pR (some G.1)), (2, pI v2)] []) (v4 : Int) (u : Mu) (hf : (m5_judge_b266 kh v1 v2 v4 u).bind Kf = some r) : J5 G l D5_judge a (some (pI r.1)) r.2 u 266 [(0, pR (some G.1)), (1, pI v1), (2, pI v2), (4, pI v4)] [] := by
  unfold m5_judge_b266 at hf
  refine j_aload_n dX5_judge_266 0 rfl ?_
  refine j_aload_n dX5_judge_267 0 rfl ?_
  refine m_geta mf_12 rfl dX5_judge_268 ?_
  refine j_iload_n dX5_judge_271 1 rfl ?_
  obtain ⟨x1, hx1, hf⟩ := obb hf
  refine m_iald mr_12 hx1 dX5_judge_272 ?_
  obtain ⟨u2, hu2, hf⟩ := obb hf
  refine m_puti_ hu2 mf_70 mfw_70 rfl dX5_judge_273 ?_
  refine j_iconst dX5_judge_276 ?_
  refine j_istore dX5_judge_277 [(7, pI 0), (0, pR (some G.1)), (1, pI v1), (2, pI v2), (4, pI v4)] (Nat.le_of_ble_eq_true rfl) rfl ?_
  replace hf := oba hf
  refine j_sub [1, 2, 3, 4, 0] _ rfl (c5_judge_l279 v1 v2 v4 ?_ NN 0 u2 hf)
  · intro q3 hf
    refine j_iinc dX5_judge_310 3 rfl [(4, pI (v4 + 1)), (0, pR (some G.1)), (1, pI v1), (2, pI v2)] (Nat.le_of_ble_eq_true rfl) rfl ?_
    refine j_goto 176 dX5_judge_313 (by decide) ?_
    exact j_sub [1, 2, 3, 0] _ rfl (hkh (v4 + 1) q3 hf)
theorem c5_judge_b240 {G : MG} {l : Launch} {a : List PV} {r : Int × Mu} {Kf : Mu → Option (Int × Mu)} {v1 : Int} {v2 : Int} (kh : Int → Mu → Option (Mu)) (hkh : ∀ (z4 : Int) (zu : Mu), ((kh z4 zu).bind Kf = some r) → J5 G l D5_judge a (some (pI r.1)) r.2 zu 176 [(0, pR (some G.1)), (1, pI v1), (2, pI v2), (4, pI z4)] []) (hK0 : ∀ q : Mu, Kf q = some r → J5 G l D5_judge a (some (pI r.1)) r.2 q 316 [(0, pR (some G.1)), (2, pI v2)] []) (v4 : Int) (v5 : Int) (s0 : Int) (u : Mu) (hf : (m5_judge_b240 kh v1 v2 v4 v5 s0 u).bind Kf = some r) : J5 G l D5_judge a (some (pI r.1)) r.2 u 240 [(0, pR (some G.1)), (1, pI v1), (2, pI v2), (4, pI v4), (5, pI v5)] [pI s0] := by
  unfold m5_judge_b240 at hf
  refine j_istore dX5_judge_240 [(6, pI s0), (0, pR (some G.1)), (1, pI v1), (2, pI v2), (4, pI v4), (5, pI v5)] (Nat.le_of_ble_eq_true rfl) rfl ?_
  refine j_iload_n dX5_judge_242 3 rfl ?_
  refine j_bipush dX5_judge_243 (by decide) ?_
  refine j_icmp_ne (w32 v2) 26 rfl rfl 261 dX5_judge_245 (by decide) (fun h4 => ?_) (fun h4 => ?_)
  · replace hf := ieb h4 hf
    refine j_iload dX5_judge_261 0 rfl ?_
    refine j_if_eq (w32 s0) rfl 310 dX5_judge_263 (by decide) (fun h1 => ?_) (fun h1 => ?_)
    · replace hf := itb h1 hf
      refine j_iinc dX5_judge_310 4 rfl [(4, pI (v4 + 1)), (6, pI s0), (0, pR (some G.1)), (1, pI v1), (2, pI v2), (5, pI v5)] (Nat.le_of_ble_eq_true rfl) rfl ?_
      refine j_goto 176 dX5_judge_313 (by decide) ?_
      exact j_sub [2, 3, 4, 0] _ rfl (hkh (v4 + 1) u hf)
    · replace hf := ieb h1 hf
      exact j_sub [1, 2, 3, 4] _ rfl (c5_judge_b266 (kh) hkh hK0 v4 u hf)
  · replace hf := itb h4 hf
    refine j_iload dX5_judge_248 5 rfl ?_
    refine j_if_eq (w32 v5) rfl 310 dX5_judge_250 (by decide) (fun h3 => ?_) (fun h3 => ?_)
    · replace hf := itb h3 hf
      refine j_iinc dX5_judge_310 4 rfl [(4, pI (v4 + 1)), (6, pI s0), (0, pR (some G.1)), (1, pI v1), (2, pI v2), (5, pI v5)] (Nat.le_of_ble_eq_true rfl) rfl ?_
      refine j_goto 176 dX5_judge_313 (by decide) ?_
      exact j_sub [2, 3, 4, 0] _ rfl (hkh (v4 + 1) u hf)
    · replace hf := ieb h3 hf
      refine j_iload dX5_judge_253 0 rfl ?_
      refine j_if_ne (w32 s0) rfl 310 dX5_judge_255 (by decide) (fun h2 => ?_) (fun h2 => ?_)
      · replace hf := ieb h2 hf
        refine j_iinc dX5_judge_310 4 rfl [(4, pI (v4 + 1)), (6, pI s0), (0, pR (some G.1)), (1, pI v1), (2, pI v2), (5, pI v5)] (Nat.le_of_ble_eq_true rfl) rfl ?_
        refine j_goto 176 dX5_judge_313 (by decide) ?_
        exact j_sub [2, 3, 4, 0] _ rfl (hkh (v4 + 1) u hf)
      · replace hf := itb h2 hf
        refine j_goto 266 dX5_judge_258 (by decide) ?_
        exact j_sub [1, 2, 3, 4] _ rfl (c5_judge_b266 (kh) hkh hK0 v4 u hf)
theorem c5_judge_b239 {G : MG} {l : Launch} {a : List PV} {r : Int × Mu} {Kf : Mu → Option (Int × Mu)} {v1 : Int} {v2 : Int} (kh : Int → Mu → Option (Mu)) (hkh : ∀ (z4 : Int) (zu : Mu), ((kh z4 zu).bind Kf = some r) → J5 G l D5_judge a (some (pI r.1)) r.2 zu 176 [(0, pR (some G.1)), (1, pI v1), (2, pI v2), (4, pI z4)] []) (hK0 : ∀ q : Mu, Kf q = some r → J5 G l D5_judge a (some (pI r.1)) r.2 q 316 [(0, pR (some G.1)), (2, pI v2)] []) (v4 : Int) (v5 : Int) (u : Mu) (hf : (m5_judge_b239 kh v1 v2 v4 v5 u).bind Kf = some r) : J5 G l D5_judge a (some (pI r.1)) r.2 u 239 [(0, pR (some G.1)), (1, pI v1), (2, pI v2), (4, pI v4), (5, pI v5)] [] := by
  unfold m5_judge_b239 at hf
  refine j_iconst dX5_judge_239 ?_
  exact j_sub [0, 1, 2, 3, 4] _ rfl (c5_judge_b240 (kh) hkh hK0 v4 v5 0 u hf)
theorem c5_judge_l176 {G : MG} {l : Launch} {a : List PV} {r : Int × Mu} {Kf : Mu → Option (Int × Mu)} (v1 : Int) (v2 : Int) (hK0 : ∀ q : Mu, Kf q = some r → J5 G l D5_judge a (some (pI r.1)) r.2 q 316 [(0, pR (some G.1)), (2, pI v2)] []) : ∀ (n : Nat) (v4 : Int) (u : Mu), ((m5_judge_l176 v1 v2 n v4 u).bind Kf = some r) → J5 G l D5_judge a (some (pI r.1)) r.2 u 176 [(0, pR (some G.1)), (1, pI v1), (2, pI v2), (4, pI v4)] [] := by
  intro n
  induction n with
  | zero => intro v4 u hf; exact onb hf
  | succ n ih =>
    intro v4 u hf
    unfold m5_judge_l176 at hf
    refine j_iload dX5_judge_176 3 rfl ?_
    refine j_aload_n dX5_judge_178 0 rfl ?_
    refine m_geti mf_65 rfl dX5_judge_179 ?_
    refine j_icmp_ge (w32 v4) (w32 (u.1 65)) rfl rfl 316 dX5_judge_182 (by decide) (fun h9 => ?_) (fun h9 => ?_)
    · replace hf := itb h9 hf
      exact j_sub [0, 2] _ rfl (hK0 u hf)
    · replace hf := ieb h9 hf
      refine j_aload_n dX5_judge_185 0 rfl ?_
      refine m_geti mf_70 rfl dX5_judge_186 ?_
      refine j_if_ge (w32 (u.1 70)) rfl 316 dX5_judge_189 (by decide) (fun h8 => ?_) (fun h8 => ?_)
      · replace hf := itb h8 hf
        exact j_sub [0, 2] _ rfl (hK0 u hf)
      · replace hf := ieb h8 hf
        refine j_aload_n dX5_judge_192 0 rfl ?_
        refine j_aload_n dX5_judge_193 0 rfl ?_
        refine m_geta mf_12 rfl dX5_judge_194 ?_
        refine j_iload_n dX5_judge_197 1 rfl ?_
        obtain ⟨x1, hx1, hf⟩ := obb hf
        refine m_iald mr_12 hx1 dX5_judge_198 ?_
        refine j_iload dX5_judge_199 3 rfl ?_
        obtain ⟨u2, hu2, hf⟩ := obb hf
        refine j_cVv [pI x1, pI v4] [] kT_v (bM_mv G) (c5_takeBoth x1 v4 u hu2) wv5_takeBoth dv5_takeBoth rfl ⟨(Nat.le_of_ble_eq_true rfl), (Nat.le_of_ble_eq_true rfl)⟩ (m_recv u) rfl (Nat.le_of_ble_eq_true rfl) dX5_judge_201 ⟨Nat.le_refl 0, Nat.le_refl 0⟩ ?_
        refine j_aload_n dX5_judge_204 0 rfl ?_
        refine j_iload_n dX5_judge_205 1 rfl ?_
        obtain ⟨u3, hu3, hf⟩ := obb hf
        refine j_cVv [pI v1] [] kT_v (bM_mv G) (c5_findMeant v1 u2 hu3) wv5_findMeant dv5_findMeant rfl ⟨(Nat.le_of_ble_eq_true rfl), (Nat.le_of_ble_eq_true rfl)⟩ (m_recv u2) rfl (Nat.le_of_ble_eq_true rfl) dX5_judge_206 ⟨Nat.le_refl 0, Nat.le_refl 0⟩ ?_
        refine j_aload_n dX5_judge_209 0 rfl ?_
        refine j_bipush dX5_judge_210 (by decide) ?_
        refine j_iconst dX5_judge_212 ?_
        refine j_aload_n dX5_judge_213 0 rfl ?_
        refine m_geti mf_46 rfl dX5_judge_214 ?_
        obtain ⟨q4, hq4, hf⟩ := obb hf
        refine j_cVr [pI 13, pI 0, pI (u3.1 46)] [] kT_v (bM_mv G) (c5_isTrue 13 0 (u3.1 46) u3 hq4) wv5_isTrue dv5_isTrue rfl ⟨(Nat.le_of_ble_eq_true rfl), (Nat.le_of_ble_eq_true rfl)⟩ (m_recv u3) rfl (Nat.le_of_ble_eq_true rfl) dX5_judge_217 ⟨Nat.le_refl 0, Nat.le_refl 0⟩ ?_
        refine j_istore dX5_judge_220 [(5, pI q4.1), (0, pR (some G.1)), (1, pI v1), (2, pI v2), (4, pI v4)] (Nat.le_of_ble_eq_true rfl) rfl ?_
        refine j_iload dX5_judge_222 0 rfl ?_
        refine j_if_eq (w32 q4.1) rfl 239 dX5_judge_224 (by decide) (fun h7 => ?_) (fun h7 => ?_)
        · replace hf := itb h7 hf
          exact j_sub [1, 2, 3, 4, 0] _ rfl (c5_judge_b239 (m5_judge_l176 v1 v2 n) ih hK0 v4 q4.1 q4.2 hf)
        · replace hf := ieb h7 hf
          refine j_aload_n dX5_judge_227 1 rfl ?_
          refine j_iload_n dX5_judge_228 2 rfl ?_
          obtain ⟨x5, hx5, hf⟩ := obb hf
          refine j_cVr [pI v1] [] kT_v (bM_mv G) (c5_answerOf v1 q4.2 hx5) wv5_answerOf dv5_answerOf rfl ⟨(Nat.le_of_ble_eq_true rfl), (Nat.le_of_ble_eq_true rfl)⟩ (m_recv q4.2) rfl (Nat.le_of_ble_eq_true rfl) dX5_judge_229 ⟨Nat.le_refl 0, Nat.le_refl 0⟩ ?_
          refine j_if_eq (w32 x5) rfl 239 dX5_judge_232 (by decide) (fun h6 => ?_) (fun h6 => ?_)
          · replace hf := itb h6 hf
            exact j_sub [1, 2, 3, 4, 0] _ rfl (c5_judge_b239 (m5_judge_l176 v1 v2 n) ih hK0 v4 q4.1 q4.2 hf)
          · replace hf := ieb h6 hf
            refine j_iconst dX5_judge_235 ?_
            refine j_goto 240 dX5_judge_236 (by decide) ?_
            exact j_sub [1, 2, 3, 4, 0] _ rfl (c5_judge_b240 (m5_judge_l176 v1 v2 n) ih hK0 v4 q4.1 1 q4.2 hf)
theorem c5_judge_b316 {G : MG} {l : Launch} {a : List PV} {r : Int × Mu} (v2 : Int) (u : Mu) (hf : m5_judge_b316 v2 u = some r) : J5 G l D5_judge a (some (pI r.1)) r.2 u 316 [(0, pR (some G.1)), (2, pI v2)] [] := by
  unfold m5_judge_b316 at hf
  refine j_iload_n dX5_judge_316 1 rfl ?_
  refine j_bipush dX5_judge_317 (by decide) ?_
  refine j_icmp_ne (w32 v2) 28 rfl rfl 337 dX5_judge_319 (by decide) (fun h3 => ?_) (fun h3 => ?_)
  · replace hf := ie h3 hf
    refine j_aload_n dX5_judge_337 0 rfl ?_
    refine m_geti mf_70 rfl dX5_judge_338 ?_
    refine j_if_lt (w32 (u.1 70)) rfl 348 dX5_judge_341 (by decide) (fun h1 => ?_) (fun h1 => ?_)
    · replace hf := it h1 hf
      refine j_iconst dX5_judge_348 ?_
      replace hf := Option.some.inj hf
      subst hf
      exact j_ireturn (bM_mv G) ⟨Nat.le_refl 0, Nat.le_refl 0⟩ rfl dX5_judge_349
    · replace hf := ie h1 hf
      refine j_iconst dX5_judge_344 ?_
      refine j_goto 349 dX5_judge_345 (by decide) ?_
      replace hf := Option.some.inj hf
      subst hf
      exact j_ireturn (bM_mv G) ⟨Nat.le_refl 0, Nat.le_refl 0⟩ rfl dX5_judge_349
  · replace hf := it h3 hf
    refine j_aload_n dX5_judge_322 0 rfl ?_
    refine m_geti mf_70 rfl dX5_judge_323 ?_
    refine j_if_lt (w32 (u.1 70)) rfl 333 dX5_judge_326 (by decide) (fun h2 => ?_) (fun h2 => ?_)
    · replace hf := it h2 hf
      refine j_iconst dX5_judge_333 ?_
      refine j_goto 349 dX5_judge_334 (by decide) ?_
      replace hf := Option.some.inj hf
      subst hf
      exact j_ireturn (bM_mv G) ⟨Nat.le_refl 0, Nat.le_refl 0⟩ rfl dX5_judge_349
    · replace hf := ie h2 hf
      refine j_iconst dX5_judge_329 ?_
      refine j_goto 349 dX5_judge_330 (by decide) ?_
      replace hf := Option.some.inj hf
      subst hf
      exact j_ireturn (bM_mv G) ⟨Nat.le_refl 0, Nat.le_refl 0⟩ rfl dX5_judge_349
theorem c5_judge_b84 {G : MG} {l : Launch} {a : List PV} {r : Int × Mu} (v1 : Int) (v2 : Int) (u : Mu) (hf : m5_judge_b84 v1 v2 u = some r) : J5 G l D5_judge a (some (pI r.1)) r.2 u 84 [(0, pR (some G.1)), (1, pI v1), (2, pI v2)] [] := by
  unfold m5_judge_b84 at hf
  refine j_aload_n dX5_judge_84 0 rfl ?_
  obtain ⟨q1, hq1, hf⟩ := ob hf
  refine j_cVr [] [] kT_v (bM_mv G) (c5_ended  u hq1) wv5_ended dv5_ended rfl ⟨(Nat.le_of_ble_eq_true rfl), (Nat.le_of_ble_eq_true rfl)⟩ (m_recv u) rfl (Nat.le_of_ble_eq_true rfl) dX5_judge_85 ⟨Nat.le_refl 0, Nat.le_refl 0⟩ ?_
  refine j_istore_n dX5_judge_88 [(3, pI q1.1), (0, pR (some G.1)), (1, pI v1), (2, pI v2)] (Nat.le_of_ble_eq_true rfl) rfl ?_
  refine j_iload_n dX5_judge_89 0 rfl ?_
  refine j_if_ge (w32 q1.1) rfl 95 dX5_judge_90 (by decide) (fun h11 => ?_) (fun h11 => ?_)
  · replace hf := it h11 hf
    refine j_aload_n dX5_judge_95 1 rfl ?_
    refine j_bipush dX5_judge_96 (by decide) ?_
    obtain ⟨u2, hu2, hf⟩ := ob hf
    refine j_cVv [pI 13] [] kT_v (bM_mv G) (c5_clear 13 q1.2 hu2) wv5_clear dv5_clear rfl ⟨(Nat.le_of_ble_eq_true rfl), (Nat.le_of_ble_eq_true rfl)⟩ (m_recv q1.2) rfl (Nat.le_of_ble_eq_true rfl) dX5_judge_98 ⟨Nat.le_refl 0, Nat.le_refl 0⟩ ?_
    refine j_aload_n dX5_judge_101 1 rfl ?_
    refine j_bipush dX5_judge_102 (by decide) ?_
    refine j_iload_n dX5_judge_104 2 rfl ?_
    obtain ⟨u3, hu3, hf⟩ := ob hf
    refine j_cVv [pI 13, pI v1] [] kT_v (bM_mv G) (c5_copyWording 13 v1 u2 hu3) wv5_copyWording dv5_copyWording rfl ⟨(Nat.le_of_ble_eq_true rfl), (Nat.le_of_ble_eq_true rfl)⟩ (m_recv u2) rfl (Nat.le_of_ble_eq_true rfl) dX5_judge_105 ⟨Nat.le_refl 0, Nat.le_refl 0⟩ ?_
    refine j_aload_n dX5_judge_108 1 rfl ?_
    refine m_geta mf_33 rfl dX5_judge_109 ?_
    refine j_bipush dX5_judge_112 (by decide) ?_
    refine j_iconst dX5_judge_114 ?_
    obtain ⟨u4, hu4, hf⟩ := ob hf
    refine m_iast mr_33 hu4 dX5_judge_115 ?_
    refine j_aload_n dX5_judge_116 1 rfl ?_
    refine j_bipush dX5_judge_117 (by decide) ?_
    refine j_iconst dX5_judge_119 ?_
    refine j_aload_n dX5_judge_120 1 rfl ?_
    refine m_geti mf_46 rfl dX5_judge_121 ?_
    obtain ⟨u5, hu5, hf⟩ := ob hf
    refine j_cVv [pI 13, pI 0, pI (u4.1 46)] [] kT_v (bM_mv G) (c5_takeNodes 13 0 (u4.1 46) u4 hu5) wv5_takeNodes dv5_takeNodes rfl ⟨(Nat.le_of_ble_eq_true rfl), (Nat.le_of_ble_eq_true rfl)⟩ (m_recv u4) rfl (Nat.le_of_ble_eq_true rfl) dX5_judge_124 ⟨Nat.le_refl 0, Nat.le_refl 0⟩ ?_
    refine j_iconst dX5_judge_127 ?_
    refine j_istore dX5_judge_128 [(4, pI 0), (3, pI q1.1), (0, pR (some G.1)), (1, pI v1), (2, pI v2)] (Nat.le_of_ble_eq_true rfl) rfl ?_
    refine j_sub [2, 3, 4, 0] _ rfl (c5_judge_l130 v1 v2 ?_ NN 0 u5 hf)
    · intro q6 hf
      refine j_aload_n dX5_judge_155 0 rfl ?_
      refine j_iload_n dX5_judge_156 1 rfl ?_
      refine j_bipush dX5_judge_157 (by decide) ?_
      obtain ⟨q7, hq7, hf⟩ := ob hf
      refine j_cVr [pI v1, pI 13] [] kT_v (bM_mv G) (c5_joinStarts v1 13 q6 hq7) wv5_joinStarts dv5_joinStarts rfl ⟨(Nat.le_of_ble_eq_true rfl), (Nat.le_of_ble_eq_true rfl)⟩ (m_recv q6) rfl (Nat.le_of_ble_eq_true rfl) dX5_judge_159 ⟨Nat.le_refl 0, Nat.le_refl 0⟩ ?_
      refine j_if_ne (w32 q7.1) rfl 168 dX5_judge_162 (by decide) (fun h10 => ?_) (fun h10 => ?_)
      · replace hf := ie h10 hf
        refine j_aload_n dX5_judge_168 0 rfl ?_
        refine j_iconst dX5_judge_169 ?_
        obtain ⟨u8, hu8, hf⟩ := ob hf
        refine m_puti_ hu8 mf_70 mfw_70 rfl dX5_judge_170 ?_
        refine j_iconst dX5_judge_173 ?_
        refine j_istore dX5_judge_174 [(4, pI 0), (0, pR (some G.1)), (1, pI v1), (2, pI v2)] (Nat.le_of_ble_eq_true rfl) rfl ?_
        refine j_sub [1, 2, 3, 0] _ rfl (c5_judge_l176 v1 v2 ?_ NN 0 u8 hf)
        · intro q9 hf
          exact j_sub [0, 1] _ rfl (c5_judge_b316 v2 q9 hf)
      · replace hf := it h10 hf
        refine j_bipush dX5_judge_165 (by decide) ?_
        replace hf := Option.some.inj hf
        subst hf
        exact j_ireturn (bM_mv G) ⟨Nat.le_refl 0, Nat.le_refl 0⟩ rfl dX5_judge_167
  · replace hf := ie h11 hf
    refine j_iload_n dX5_judge_93 0 rfl ?_
    replace hf := Option.some.inj hf
    subst hf
    exact j_ireturn (bM_mv G) ⟨Nat.le_refl 0, Nat.le_refl 0⟩ rfl dX5_judge_94
theorem c5_judge_b80 {G : MG} {l : Launch} {a : List PV} {r : Int × Mu} (v1 : Int) (v2 : Int) (u : Mu) (hf : m5_judge_b80 v1 v2 u = some r) : J5 G l D5_judge a (some (pI r.1)) r.2 u 80 [(0, pR (some G.1)), (1, pI v1), (2, pI v2)] [] := by
  unfold m5_judge_b80 at hf
  refine j_aload_n dX5_judge_80 0 rfl ?_
  obtain ⟨u1, hu1, hf⟩ := ob hf
  refine j_cVv [] [] kT_v (bM_mv G) (c5_cannot  u hu1) wv5_cannot dv5_cannot rfl ⟨(Nat.le_of_ble_eq_true rfl), (Nat.le_of_ble_eq_true rfl)⟩ (m_recv u) rfl (Nat.le_of_ble_eq_true rfl) dX5_judge_81 ⟨Nat.le_refl 0, Nat.le_refl 0⟩ ?_
  exact j_sub [0, 1, 2] _ rfl (c5_judge_b84 v1 v2 u1 hf)
theorem c5_judge {G : MG} {l : Launch} {r : Int × Mu} (v1 : Int) (u : Mu) (hf : m5_judge v1 u = some r) : JM kT (bM G) (aM G) l yX5_judge D5_judge [pR (some G.1), pI v1] u (some (pI r.1)) r.2 0 0 := by
  refine j_met (lv0 := [(0, pR (some G.1)), (1, pI v1)]) ⟨pl_X5, rfl, rfl, (Nat.le_of_ble_eq_true rfl), rfl⟩ ?_
  unfold m5_judge at hf
  refine j_aload_n dX5_judge_0 0 rfl ?_
  refine j_iload_n dX5_judge_1 1 rfl ?_
  obtain ⟨x1, hx1, hf⟩ := ob hf
  refine j_cVr [pI v1] [] kT_v (bM_mv G) (c5_isWording v1 u hx1) wv5_isWording dv5_isWording rfl ⟨(Nat.le_of_ble_eq_true rfl), (Nat.le_of_ble_eq_true rfl)⟩ (m_recv u) rfl (Nat.le_of_ble_eq_true rfl) dX5_judge_2 ⟨Nat.le_refl 0, Nat.le_refl 0⟩ ?_
  refine j_if_ne (w32 x1) rfl 10 dX5_judge_5 (by decide) (fun h11 => ?_) (fun h11 => ?_)
  · replace hf := ie h11 hf
    refine j_aload_n dX5_judge_10 0 rfl ?_
    refine j_iload_n dX5_judge_11 1 rfl ?_
    refine j_sipush dX5_judge_12 (by decide) ?_
    obtain ⟨u2, hu2, hf⟩ := ob hf
    refine j_cVv [pI v1, pI 300] [] kT_v (bM_mv G) (c5_beginText v1 300 u hu2) wv5_beginText dv5_beginText rfl ⟨(Nat.le_of_ble_eq_true rfl), (Nat.le_of_ble_eq_true rfl)⟩ (m_recv u) rfl (Nat.le_of_ble_eq_true rfl) dX5_judge_15 ⟨Nat.le_refl 0, Nat.le_refl 0⟩ ?_
    refine j_iconst dX5_judge_18 ?_
    refine j_istore_n dX5_judge_19 [(2, pI (-1)), (0, pR (some G.1)), (1, pI v1)] (Nat.le_of_ble_eq_true rfl) rfl ?_
    refine j_aload_n dX5_judge_20 1 rfl ?_
    refine m_geti mf_4 rfl dX5_judge_21 ?_
    refine j_iconst dX5_judge_24 ?_
    refine j_icmp_ne (w32 (u2.1 4)) 4 rfl rfl 80 dX5_judge_25 (by decide) (fun h10 => ?_) (fun h10 => ?_)
    · replace hf := ie h10 hf
      exact j_sub [1, 2, 0] _ rfl (c5_judge_b80 v1 (-1) u2 hf)
    · replace hf := it h10 hf
      refine j_aload_n dX5_judge_28 1 rfl ?_
      refine m_geti mf_7 rfl dX5_judge_29 ?_
      refine j_bipush dX5_judge_32 (by decide) ?_
      refine j_icmp_lt (w32 (u2.1 7)) 26 rfl rfl 80 dX5_judge_34 (by decide) (fun h9 => ?_) (fun h9 => ?_)
      · replace hf := it h9 hf
        exact j_sub [1, 2, 0] _ rfl (c5_judge_b80 v1 (-1) u2 hf)
      · replace hf := ie h9 hf
        refine j_aload_n dX5_judge_37 1 rfl ?_
        refine m_geti mf_7 rfl dX5_judge_38 ?_
        refine j_bipush dX5_judge_41 (by decide) ?_
        refine j_icmp_gt (w32 (u2.1 7)) 28 rfl rfl 80 dX5_judge_43 (by decide) (fun h8 => ?_) (fun h8 => ?_)
        · replace hf := it h8 hf
          exact j_sub [1, 2, 0] _ rfl (c5_judge_b80 v1 (-1) u2 hf)
        · replace hf := ie h8 hf
          refine j_aload_n dX5_judge_46 1 rfl ?_
          refine m_geti mf_7 rfl dX5_judge_47 ?_
          refine j_istore_n dX5_judge_50 [(2, pI (u2.1 7)), (0, pR (some G.1)), (1, pI v1)] (Nat.le_of_ble_eq_true rfl) rfl ?_
          refine j_aload_n dX5_judge_51 1 rfl ?_
          obtain ⟨u3, hu3, hf⟩ := ob hf
          refine j_cVv [] [] kT_v (bM_mv G) (c5_next  u2 hu3) wv5_next dv5_next rfl ⟨(Nat.le_of_ble_eq_true rfl), (Nat.le_of_ble_eq_true rfl)⟩ (m_recv u2) rfl (Nat.le_of_ble_eq_true rfl) dX5_judge_52 ⟨Nat.le_refl 0, Nat.le_refl 0⟩ ?_
          refine j_aload_n dX5_judge_55 1 rfl ?_
          obtain ⟨u4, hu4, hf⟩ := ob hf
          refine j_cVv [] [] kT_v (bM_mv G) (c5_cond  u3 hu4) wv5_cond dv5_cond rfl ⟨(Nat.le_of_ble_eq_true rfl), (Nat.le_of_ble_eq_true rfl)⟩ (m_recv u3) rfl (Nat.le_of_ble_eq_true rfl) dX5_judge_56 ⟨Nat.le_refl 0, Nat.le_refl 0⟩ ?_
          refine j_aload_n dX5_judge_59 1 rfl ?_
          refine m_geti mf_8 rfl dX5_judge_60 ?_
          refine j_if_ne (w32 (u4.1 8)) rfl 84 dX5_judge_63 (by decide) (fun h7 => ?_) (fun h7 => ?_)
          · replace hf := ie h7 hf
            exact j_sub [1, 2, 0] _ rfl (c5_judge_b84 v1 (u2.1 7) u4 hf)
          · replace hf := it h7 hf
            refine j_aload_n dX5_judge_66 1 rfl ?_
            refine m_geti mf_4 rfl dX5_judge_67 ?_
            refine j_if_eq (w32 (u4.1 4)) rfl 84 dX5_judge_70 (by decide) (fun h6 => ?_) (fun h6 => ?_)
            · replace hf := it h6 hf
              exact j_sub [1, 2, 0] _ rfl (c5_judge_b84 v1 (u2.1 7) u4 hf)
            · replace hf := ie h6 hf
              refine j_aload_n dX5_judge_73 1 rfl ?_
              obtain ⟨u5, hu5, hf⟩ := ob hf
              refine j_cVv [] [] kT_v (bM_mv G) (c5_cannot  u4 hu5) wv5_cannot dv5_cannot rfl ⟨(Nat.le_of_ble_eq_true rfl), (Nat.le_of_ble_eq_true rfl)⟩ (m_recv u4) rfl (Nat.le_of_ble_eq_true rfl) dX5_judge_74 ⟨Nat.le_refl 0, Nat.le_refl 0⟩ ?_
              refine j_goto 84 dX5_judge_77 (by decide) ?_
              exact j_sub [1, 2, 0] _ rfl (c5_judge_b84 v1 (u2.1 7) u5 hf)
  · replace hf := it h11 hf
    refine j_iconst dX5_judge_8 ?_
    replace hf := Option.some.inj hf
    subst hf
    exact j_ireturn (bM_mv G) ⟨Nat.le_refl 0, Nat.le_refl 0⟩ rfl dX5_judge_9
theorem c5_shown {G : MG} {l : Launch} {r : Int} (v1 : Int) (u : Mu) (hf : m5_shown v1 u = some r) : JM kT (bM G) (aM G) l yX5_shown D5_shown [pR (some G.1), pI v1] u (some (pI r)) u 0 0 := by
  refine j_met (lv0 := [(0, pR (some G.1)), (1, pI v1)]) ⟨pl_X5, rfl, rfl, (Nat.le_of_ble_eq_true rfl), rfl⟩ ?_
  unfold m5_shown at hf
  refine j_aload_n dX5_shown_0 0 rfl ?_
  refine m_geti mf_70 rfl dX5_shown_1 ?_
  refine j_if_ge (w32 (u.1 70)) rfl 12 dX5_shown_4 (by decide) (fun h4 => ?_) (fun h4 => ?_)
  · replace hf := it h4 hf
    refine j_iload_n dX5_shown_12 1 rfl ?_
    refine j_if_lt (w32 v1) rfl 33 dX5_shown_13 (by decide) (fun h3 => ?_) (fun h3 => ?_)
    · replace hf := it h3 hf
      refine j_iconst dX5_shown_33 ?_
      replace hf := Option.some.inj hf
      subst hf
      exact j_ireturn (bM_mv G) ⟨Nat.le_refl 0, Nat.le_refl 0⟩ rfl dX5_shown_34
    · replace hf := ie h3 hf
      refine j_iload_n dX5_shown_16 1 rfl ?_
      refine j_aload_n dX5_shown_17 0 rfl ?_
      refine m_geti mf_70 rfl dX5_shown_18 ?_
      refine j_icmp_ge (w32 v1) (w32 (u.1 70)) rfl rfl 33 dX5_shown_21 (by decide) (fun h2 => ?_) (fun h2 => ?_)
      · replace hf := it h2 hf
        refine j_iconst dX5_shown_33 ?_
        replace hf := Option.some.inj hf
        subst hf
        exact j_ireturn (bM_mv G) ⟨Nat.le_refl 0, Nat.le_refl 0⟩ rfl dX5_shown_34
      · replace hf := ie h2 hf
        refine j_aload_n dX5_shown_24 0 rfl ?_
        refine m_geta mf_69 rfl dX5_shown_25 ?_
        refine j_iload_n dX5_shown_28 1 rfl ?_
        obtain ⟨x1, hx1, hf⟩ := ob hf
        refine m_iald mr_69 hx1 dX5_shown_29 ?_
        refine j_goto 34 dX5_shown_30 (by decide) ?_
        replace hf := Option.some.inj hf
        subst hf
        exact j_ireturn (bM_mv G) ⟨Nat.le_refl 0, Nat.le_refl 0⟩ rfl dX5_shown_34
  · replace hf := ie h4 hf
    refine j_bipush dX5_shown_7 (by decide) ?_
    refine j_goto 34 dX5_shown_9 (by decide) ?_
    replace hf := Option.some.inj hf
    subst hf
    exact j_ireturn (bM_mv G) ⟨Nat.le_refl 0, Nat.le_refl 0⟩ rfl dX5_shown_34
theorem c5_event_l44 {G : MG} {l : Launch} {a : List PV} {r : Int × Mu} {Kf : Mu → Option (Int × Mu)} (hK0 : ∀ q : Mu, Kf q = some r → J5 G l D5_event a (some (pI r.1)) r.2 q 71 [(0, pR (some G.1))] []) : ∀ (n : Nat) (v2 : Int) (u : Mu), ((m5_event_l44 n v2 u).bind Kf = some r) → J5 G l D5_event a (some (pI r.1)) r.2 u 44 [(0, pR (some G.1)), (2, pI v2)] [] := by
  intro n
  induction n with
  | zero => intro v2 u hf; exact onb hf
  | succ n ih =>
    intro v2 u hf
    unfold m5_event_l44 at hf
    refine j_iload_n dX5_event_44 1 rfl ?_
    refine j_bipush dX5_event_45 (by decide) ?_
    refine j_icmp_ge (w32 v2) 8 rfl rfl 71 dX5_event_47 (by decide) (fun h2 => ?_) (fun h2 => ?_)
    · replace hf := itb h2 hf
      exact j_sub [0] _ rfl (hK0 u hf)
    · replace hf := ieb h2 hf
      refine j_aload_n dX5_event_50 0 rfl ?_
      refine m_geta mf_75 rfl dX5_event_51 ?_
      refine j_bipush dX5_event_54 (by decide) ?_
      refine j_aload_n dX5_event_56 0 rfl ?_
      refine m_geti mf_71 rfl dX5_event_57 ?_
      refine j_imul dX5_event_60 ?_
      refine j_iload_n dX5_event_61 1 rfl ?_
      refine j_iadd dX5_event_62 ?_
      refine j_iconst dX5_event_63 ?_
      obtain ⟨u1, hu1, hf⟩ := obb hf
      refine m_iast mr_75 hu1 dX5_event_64 ?_
      refine j_iinc dX5_event_65 1 rfl [(2, pI (v2 + 1)), (0, pR (some G.1))] (Nat.le_of_ble_eq_true rfl) rfl ?_
      refine j_goto 44 dX5_event_68 (by decide) ?_
      exact j_sub [1, 0] _ rfl (ih (v2 + 1) u1 hf)
theorem c5_event {G : MG} {l : Launch} {r : Int × Mu} (v1 : Int) (u : Mu) (hf : m5_event v1 u = some r) : JM kT (bM G) (aM G) l yX5_event D5_event [pR (some G.1), pI v1] u (some (pI r.1)) r.2 0 0 := by
  refine j_met (lv0 := [(0, pR (some G.1)), (1, pI v1)]) ⟨pl_X5, rfl, rfl, (Nat.le_of_ble_eq_true rfl), rfl⟩ ?_
  unfold m5_event at hf
  refine j_aload_n dX5_event_0 0 rfl ?_
  refine j_iload_n dX5_event_1 1 rfl ?_
  obtain ⟨x1, hx1, hf⟩ := ob hf
  refine j_cVr [pI v1] [] kT_v (bM_mv G) (c5_isWording v1 u hx1) wv5_isWording dv5_isWording rfl ⟨(Nat.le_of_ble_eq_true rfl), (Nat.le_of_ble_eq_true rfl)⟩ (m_recv u) rfl (Nat.le_of_ble_eq_true rfl) dX5_event_2 ⟨Nat.le_refl 0, Nat.le_refl 0⟩ ?_
  refine j_if_ne (w32 x1) rfl 10 dX5_event_5 (by decide) (fun h6 => ?_) (fun h6 => ?_)
  · replace hf := ie h6 hf
    refine j_aload_n dX5_event_10 0 rfl ?_
    refine m_geti mf_71 rfl dX5_event_11 ?_
    refine j_bipush dX5_event_14 (by decide) ?_
    refine j_icmp_ne (w32 (u.1 71)) 32 rfl rfl 22 dX5_event_16 (by decide) (fun h5 => ?_) (fun h5 => ?_)
    · replace hf := ie h5 hf
      refine j_aload_n dX5_event_22 0 rfl ?_
      refine j_dup dX5_event_23 rfl ?_
      refine m_geti mf_71 rfl dX5_event_24 ?_
      refine j_iconst dX5_event_27 ?_
      refine j_iadd dX5_event_28 ?_
      obtain ⟨u2, hu2, hf⟩ := ob hf
      refine m_puti_ hu2 mf_71 mfw_71 rfl dX5_event_29 ?_
      refine j_aload_n dX5_event_32 0 rfl ?_
      refine m_geta mf_72 rfl dX5_event_33 ?_
      refine j_aload_n dX5_event_36 0 rfl ?_
      refine m_geti mf_71 rfl dX5_event_37 ?_
      refine j_iload_n dX5_event_40 1 rfl ?_
      obtain ⟨u3, hu3, hf⟩ := ob hf
      refine m_iast mr_72 hu3 dX5_event_41 ?_
      refine j_iconst dX5_event_42 ?_
      refine j_istore_n dX5_event_43 [(2, pI 0), (0, pR (some G.1)), (1, pI v1)] (Nat.le_of_ble_eq_true rfl) rfl ?_
      refine j_sub [1, 0] _ rfl (c5_event_l44 ?_ NN 0 u3 hf)
      · intro q4 hf
        refine j_aload_n dX5_event_71 0 rfl ?_
        refine m_geti mf_71 rfl dX5_event_72 ?_
        replace hf := Option.some.inj hf
        subst hf
        exact j_ireturn (bM_mv G) ⟨Nat.le_refl 0, Nat.le_refl 0⟩ rfl dX5_event_75
    · replace hf := it h5 hf
      refine j_bipush dX5_event_19 (by decide) ?_
      replace hf := Option.some.inj hf
      subst hf
      exact j_ireturn (bM_mv G) ⟨Nat.le_refl 0, Nat.le_refl 0⟩ rfl dX5_event_21
  · replace hf := it h6 hf
    refine j_iconst dX5_event_8 ?_
    replace hf := Option.some.inj hf
    subst hf
    exact j_ireturn (bM_mv G) ⟨Nat.le_refl 0, Nat.le_refl 0⟩ rfl dX5_event_9
theorem c5_isDay {G : MG} {l : Launch} {r : Int} (v0 : Int) (u : Mu) (hf : m5_isDay v0 = some r) : JM kT (bM G) (aM G) l yX5_isDay D5_isDay [pI v0] u (some (pI r)) u 0 0 := by
  refine j_met (lv0 := [(0, pI v0)]) ⟨pl_X5, rfl, rfl, (Nat.le_of_ble_eq_true rfl), rfl⟩ ?_
  unfold m5_isDay at hf
  refine j_iload_n dX5_isDay_0 0 rfl ?_
  refine j_if_lt (w32 v0) rfl 15 dX5_isDay_1 (by decide) (fun h2 => ?_) (fun h2 => ?_)
  · replace hf := it h2 hf
    refine j_iconst dX5_isDay_15 ?_
    replace hf := Option.some.inj hf
    subst hf
    exact j_zreturn (x := 0) (bM_mv G) ⟨Nat.le_refl 0, Nat.le_refl 0⟩ (ty := .boolean) rfl (nar_z (Or.inl rfl)) dX5_isDay_16
  · replace hf := ie h2 hf
    refine j_iload_n dX5_isDay_4 0 rfl ?_
    refine j_sipush dX5_isDay_5 (by decide) ?_
    refine j_icmp_gt (w32 v0) 9999 rfl rfl 15 dX5_isDay_8 (by decide) (fun h1 => ?_) (fun h1 => ?_)
    · replace hf := it h1 hf
      refine j_iconst dX5_isDay_15 ?_
      replace hf := Option.some.inj hf
      subst hf
      exact j_zreturn (x := 0) (bM_mv G) ⟨Nat.le_refl 0, Nat.le_refl 0⟩ (ty := .boolean) rfl (nar_z (Or.inl rfl)) dX5_isDay_16
    · replace hf := ie h1 hf
      refine j_iconst dX5_isDay_11 ?_
      refine j_goto 16 dX5_isDay_12 (by decide) ?_
      replace hf := Option.some.inj hf
      subst hf
      exact j_zreturn (x := 1) (bM_mv G) ⟨Nat.le_refl 0, Nat.le_refl 0⟩ (ty := .boolean) rfl (nar_z (Or.inr rfl)) dX5_isDay_16
theorem c5_isEvent {G : MG} {l : Launch} {r : Int} (v1 : Int) (u : Mu) (hf : m5_isEvent v1 u = some r) : JM kT (bM G) (aM G) l yX5_isEvent D5_isEvent [pR (some G.1), pI v1] u (some (pI r)) u 0 0 := by
  refine j_met (lv0 := [(0, pR (some G.1)), (1, pI v1)]) ⟨pl_X5, rfl, rfl, (Nat.le_of_ble_eq_true rfl), rfl⟩ ?_
  unfold m5_isEvent at hf
  refine j_iload_n dX5_isEvent_0 1 rfl ?_
  refine j_iconst dX5_isEvent_1 ?_
  refine j_icmp_lt (w32 v1) 1 rfl rfl 17 dX5_isEvent_2 (by decide) (fun h2 => ?_) (fun h2 => ?_)
  · replace hf := it h2 hf
    refine j_iconst dX5_isEvent_17 ?_
    replace hf := Option.some.inj hf
    subst hf
    exact j_zreturn (x := 0) (bM_mv G) ⟨Nat.le_refl 0, Nat.le_refl 0⟩ (ty := .boolean) rfl (nar_z (Or.inl rfl)) dX5_isEvent_18
  · replace hf := ie h2 hf
    refine j_iload_n dX5_isEvent_5 1 rfl ?_
    refine j_aload_n dX5_isEvent_6 0 rfl ?_
    refine m_geti mf_71 rfl dX5_isEvent_7 ?_
    refine j_icmp_gt (w32 v1) (w32 (u.1 71)) rfl rfl 17 dX5_isEvent_10 (by decide) (fun h1 => ?_) (fun h1 => ?_)
    · replace hf := it h1 hf
      refine j_iconst dX5_isEvent_17 ?_
      replace hf := Option.some.inj hf
      subst hf
      exact j_zreturn (x := 0) (bM_mv G) ⟨Nat.le_refl 0, Nat.le_refl 0⟩ (ty := .boolean) rfl (nar_z (Or.inl rfl)) dX5_isEvent_18
    · replace hf := ie h1 hf
      refine j_iconst dX5_isEvent_13 ?_
      refine j_goto 18 dX5_isEvent_14 (by decide) ?_
      replace hf := Option.some.inj hf
      subst hf
      exact j_zreturn (x := 1) (bM_mv G) ⟨Nat.le_refl 0, Nat.le_refl 0⟩ (ty := .boolean) rfl (nar_z (Or.inr rfl)) dX5_isEvent_18
theorem c5_tell_b69 {G : MG} {l : Launch} {a : List PV} {r : Int × Mu} (v1 : Int) (v2 : Int) (v3 : Int) (v4 : Int) (u : Mu) (hf : m5_tell_b69 v1 v2 v3 v4 u = some r) : J5 G l D5_tell a (some (pI r.1)) r.2 u 69 [(0, pR (some G.1)), (1, pI v1), (2, pI v2), (3, pI v3), (4, pI v4)] [] := by
  unfold m5_tell_b69 at hf
  refine j_iload dX5_tell_69 4 rfl ?_
  obtain ⟨x1, hx1, hf⟩ := ob hf
  refine j_cSr [pI v4] [] kT_v (bM_mv G) (c5_isDay v4 u hx1) wv5_isDay dv5_isDay rfl ⟨(Nat.le_of_ble_eq_true rfl), (Nat.le_of_ble_eq_true rfl)⟩ rfl (Nat.le_of_ble_eq_true rfl) dX5_tell_71 ⟨Nat.le_refl 0, Nat.le_refl 0⟩ ?_
  refine j_if_ne (w32 x1) rfl 80 dX5_tell_74 (by decide) (fun h11 => ?_) (fun h11 => ?_)
  · replace hf := ie h11 hf
    refine j_bipush dX5_tell_80 (by decide) ?_
    refine j_iload_n dX5_tell_82 1 rfl ?_
    refine j_imul dX5_tell_83 ?_
    refine j_iload_n dX5_tell_84 2 rfl ?_
    refine j_iadd dX5_tell_85 ?_
    refine j_istore dX5_tell_86 [(6, pI ((8 * v1) + v2)), (0, pR (some G.1)), (1, pI v1), (2, pI v2), (3, pI v3), (4, pI v4)] (Nat.le_of_ble_eq_true rfl) rfl ?_
    refine j_aload_n dX5_tell_88 1 rfl ?_
    refine m_geta mf_75 rfl dX5_tell_89 ?_
    refine j_iload dX5_tell_92 0 rfl ?_
    obtain ⟨x2, hx2, hf⟩ := ob hf
    refine m_iald mr_75 hx2 dX5_tell_94 ?_
    refine j_bipush dX5_tell_95 (by decide) ?_
    refine j_icmp_ne (w32 x2) 6 rfl rfl 103 dX5_tell_97 (by decide) (fun h10 => ?_) (fun h10 => ?_)
    · replace hf := ie h10 hf
      refine j_aload_n dX5_tell_103 1 rfl ?_
      refine m_geta mf_73 rfl dX5_tell_104 ?_
      refine j_bipush dX5_tell_107 (by decide) ?_
      refine j_iload dX5_tell_109 0 rfl ?_
      refine j_imul dX5_tell_111 ?_
      refine j_aload_n dX5_tell_112 1 rfl ?_
      refine m_geta mf_75 rfl dX5_tell_113 ?_
      refine j_iload dX5_tell_116 0 rfl ?_
      obtain ⟨x3, hx3, hf⟩ := ob hf
      refine m_iald mr_75 hx3 dX5_tell_118 ?_
      refine j_iadd dX5_tell_119 ?_
      refine j_iload_n dX5_tell_120 4 rfl ?_
      obtain ⟨u4, hu4, hf⟩ := ob hf
      refine m_iast mr_73 hu4 dX5_tell_121 ?_
      refine j_aload_n dX5_tell_122 1 rfl ?_
      refine m_geta mf_74 rfl dX5_tell_123 ?_
      refine j_bipush dX5_tell_126 (by decide) ?_
      refine j_iload dX5_tell_128 0 rfl ?_
      refine j_imul dX5_tell_130 ?_
      refine j_aload_n dX5_tell_131 1 rfl ?_
      refine m_geta mf_75 rfl dX5_tell_132 ?_
      refine j_iload dX5_tell_135 0 rfl ?_
      obtain ⟨x5, hx5, hf⟩ := ob hf
      refine m_iald mr_75 hx5 dX5_tell_137 ?_
      refine j_iadd dX5_tell_138 ?_
      refine j_iload dX5_tell_139 5 rfl ?_
      obtain ⟨u6, hu6, hf⟩ := ob hf
      refine m_iast mr_74 hu6 dX5_tell_141 ?_
      refine j_aload_n dX5_tell_142 1 rfl ?_
      refine m_geta mf_75 rfl dX5_tell_143 ?_
      refine j_iload dX5_tell_146 0 rfl ?_
      refine j_dup2_11 dX5_tell_148 rfl rfl ?_
      obtain ⟨x7, hx7, hf⟩ := ob hf
      refine m_iald mr_75 hx7 dX5_tell_149 ?_
      refine j_iconst dX5_tell_150 ?_
      refine j_iadd dX5_tell_151 ?_
      obtain ⟨u8, hu8, hf⟩ := ob hf
      refine m_iast mr_75 hu8 dX5_tell_152 ?_
      refine j_aload_n dX5_tell_153 1 rfl ?_
      refine m_geta mf_75 rfl dX5_tell_154 ?_
      refine j_iload dX5_tell_157 0 rfl ?_
      obtain ⟨x9, hx9, hf⟩ := ob hf
      refine m_iald mr_75 hx9 dX5_tell_159 ?_
      replace hf := Option.some.inj hf
      subst hf
      exact j_ireturn (bM_mv G) ⟨Nat.le_refl 0, Nat.le_refl 0⟩ rfl dX5_tell_160
    · replace hf := it h10 hf
      refine j_bipush dX5_tell_100 (by decide) ?_
      replace hf := Option.some.inj hf
      subst hf
      exact j_ireturn (bM_mv G) ⟨Nat.le_refl 0, Nat.le_refl 0⟩ rfl dX5_tell_102
  · replace hf := it h11 hf
    refine j_bipush dX5_tell_77 (by decide) ?_
    replace hf := Option.some.inj hf
    subst hf
    exact j_ireturn (bM_mv G) ⟨Nat.le_refl 0, Nat.le_refl 0⟩ rfl dX5_tell_79
theorem c5_tell {G : MG} {l : Launch} {r : Int × Mu} (v1 : Int) (v2 : Int) (v3 : Int) (v4 : Int) (u : Mu) (hf : m5_tell v1 v2 v3 v4 u = some r) : JM kT (bM G) (aM G) l yX5_tell D5_tell [pR (some G.1), pI v1, pI v2, pI v3, pI v4] u (some (pI r.1)) r.2 0 0 := by
  refine j_met (lv0 := [(0, pR (some G.1)), (1, pI v1), (2, pI v2), (3, pI v3), (4, pI v4)]) ⟨pl_X5, rfl, rfl, (Nat.le_of_ble_eq_true rfl), rfl⟩ ?_
  unfold m5_tell at hf
  refine j_aload_n dX5_tell_0 0 rfl ?_
  refine j_iload_n dX5_tell_1 1 rfl ?_
  obtain ⟨x1, hx1, hf⟩ := ob hf
  refine j_cVr [pI v1] [] kT_v (bM_mv G) (c5_isEvent v1 u hx1) wv5_isEvent dv5_isEvent rfl ⟨(Nat.le_of_ble_eq_true rfl), (Nat.le_of_ble_eq_true rfl)⟩ (m_recv u) rfl (Nat.le_of_ble_eq_true rfl) dX5_tell_2 ⟨Nat.le_refl 0, Nat.le_refl 0⟩ ?_
  refine j_if_eq (w32 x1) rfl 27 dX5_tell_5 (by decide) (fun h12 => ?_) (fun h12 => ?_)
  · replace hf := it h12 hf
    refine j_iconst dX5_tell_27 ?_
    replace hf := Option.some.inj hf
    subst hf
    exact j_ireturn (bM_mv G) ⟨Nat.le_refl 0, Nat.le_refl 0⟩ rfl dX5_tell_28
  · replace hf := ie h12 hf
    refine j_iload_n dX5_tell_8 2 rfl ?_
    refine j_if_lt (w32 v2) rfl 27 dX5_tell_9 (by decide) (fun h11 => ?_) (fun h11 => ?_)
    · replace hf := it h11 hf
      refine j_iconst dX5_tell_27 ?_
      replace hf := Option.some.inj hf
      subst hf
      exact j_ireturn (bM_mv G) ⟨Nat.le_refl 0, Nat.le_refl 0⟩ rfl dX5_tell_28
    · replace hf := ie h11 hf
      refine j_iload_n dX5_tell_12 2 rfl ?_
      refine j_aload_n dX5_tell_13 0 rfl ?_
      refine m_geta mf_12 rfl dX5_tell_14 ?_
      refine j_aload_n dX5_tell_17 0 rfl ?_
      refine m_geta mf_72 rfl dX5_tell_18 ?_
      refine j_iload_n dX5_tell_21 1 rfl ?_
      obtain ⟨x2, hx2, hf⟩ := ob hf
      refine m_iald mr_72 hx2 dX5_tell_22 ?_
      obtain ⟨x3, hx3, hf⟩ := ob hf
      refine m_iald mr_12 hx3 dX5_tell_23 ?_
      refine j_icmp_lt (w32 v2) (w32 x3) rfl rfl 29 dX5_tell_24 (by decide) (fun h10 => ?_) (fun h10 => ?_)
      · replace hf := it h10 hf
        refine j_bipush dX5_tell_29 (by decide) ?_
        refine j_aload_n dX5_tell_31 0 rfl ?_
        refine m_geta mf_72 rfl dX5_tell_32 ?_
        refine j_iload_n dX5_tell_35 1 rfl ?_
        obtain ⟨x4, hx4, hf⟩ := ob hf
        refine m_iald mr_72 hx4 dX5_tell_36 ?_
        refine j_imul dX5_tell_37 ?_
        refine j_iload_n dX5_tell_38 2 rfl ?_
        refine j_iadd dX5_tell_39 ?_
        refine j_istore dX5_tell_40 [(5, pI ((8 * x4) + v2)), (0, pR (some G.1)), (1, pI v1), (2, pI v2), (3, pI v3), (4, pI v4)] (Nat.le_of_ble_eq_true rfl) rfl ?_
        refine j_iload_n dX5_tell_42 4 rfl ?_
        refine j_iconst dX5_tell_43 ?_
        refine j_icmp_eq (w32 v3) (-1) rfl rfl 69 dX5_tell_44 (by decide) (fun h9 => ?_) (fun h9 => ?_)
        · replace hf := it h9 hf
          exact j_sub [1, 2, 3, 4, 5] _ rfl (c5_tell_b69 v1 v2 v3 v4 u hf)
        · replace hf := ie h9 hf
          refine j_iload_n dX5_tell_47 4 rfl ?_
          refine j_aload_n dX5_tell_48 1 rfl ?_
          refine m_geta mf_17 rfl dX5_tell_49 ?_
          refine j_iload dX5_tell_52 0 rfl ?_
          obtain ⟨x5, hx5, hf⟩ := ob hf
          refine m_iald mr_17 hx5 dX5_tell_54 ?_
          refine j_icmp_lt (w32 v3) (w32 x5) rfl rfl 77 dX5_tell_55 (by decide) (fun h8 => ?_) (fun h8 => ?_)
          · replace hf := it h8 hf
            refine j_bipush dX5_tell_77 (by decide) ?_
            replace hf := Option.some.inj hf
            subst hf
            exact j_ireturn (bM_mv G) ⟨Nat.le_refl 0, Nat.le_refl 0⟩ rfl dX5_tell_79
          · replace hf := ie h8 hf
            refine j_iload_n dX5_tell_58 4 rfl ?_
            refine j_aload_n dX5_tell_59 1 rfl ?_
            refine m_geta mf_18 rfl dX5_tell_60 ?_
            refine j_iload dX5_tell_63 0 rfl ?_
            obtain ⟨x6, hx6, hf⟩ := ob hf
            refine m_iald mr_18 hx6 dX5_tell_65 ?_
            refine j_icmp_gt (w32 v3) (w32 x6) rfl rfl 77 dX5_tell_66 (by decide) (fun h7 => ?_) (fun h7 => ?_)
            · replace hf := it h7 hf
              refine j_bipush dX5_tell_77 (by decide) ?_
              replace hf := Option.some.inj hf
              subst hf
              exact j_ireturn (bM_mv G) ⟨Nat.le_refl 0, Nat.le_refl 0⟩ rfl dX5_tell_79
            · replace hf := ie h7 hf
              exact j_sub [1, 2, 3, 4, 5] _ rfl (c5_tell_b69 v1 v2 v3 v4 u hf)
      · replace hf := ie h10 hf
        refine j_iconst dX5_tell_27 ?_
        replace hf := Option.some.inj hf
        subst hf
        exact j_ireturn (bM_mv G) ⟨Nat.le_refl 0, Nat.le_refl 0⟩ rfl dX5_tell_28
theorem c5_factAt_l17 {G : MG} {l : Launch} {a : List PV} {r : Int} {Kf : Int → Option (Int)} (v3 : Int) (v4 : Int) (u : Mu) (hK0 : ∀ q : Int, Kf q = some r → J5 G l D5_factAt a (some (pI r)) u u 100 [(6, pI q)] []) : ∀ (n : Nat) (v5 : Int) (v6 : Int) (v7 : Int), ((m5_factAt_l17 v3 v4 u n v5 v6 v7).bind Kf = some r) → J5 G l D5_factAt a (some (pI r)) u u 17 [(0, pR (some G.1)), (3, pI v3), (4, pI v4), (5, pI v5), (6, pI v6), (7, pI v7)] [] := by
  intro n
  induction n with
  | zero => intro v5 v6 v7 hf; exact onb hf
  | succ n ih =>
    intro v5 v6 v7 hf
    unfold m5_factAt_l17 at hf
    refine j_iload dX5_factAt_17 5 rfl ?_
    refine j_aload_n dX5_factAt_19 0 rfl ?_
    refine m_geta mf_75 rfl dX5_factAt_20 ?_
    refine j_iload dX5_factAt_23 2 rfl ?_
    obtain ⟨x1, hx1, hf⟩ := obb hf
    refine m_iald mr_75 hx1 dX5_factAt_25 ?_
    refine j_icmp_ge (w32 v7) (w32 x1) rfl rfl 100 dX5_factAt_26 (by decide) (fun h8 => ?_) (fun h8 => ?_)
    · replace hf := itb h8 hf
      exact j_sub [4] _ rfl (hK0 v6 hf)
    · replace hf := ieb h8 hf
      refine j_aload_n dX5_factAt_29 0 rfl ?_
      refine m_geta mf_74 rfl dX5_factAt_30 ?_
      refine j_bipush dX5_factAt_33 (by decide) ?_
      refine j_iload dX5_factAt_35 2 rfl ?_
      refine j_imul dX5_factAt_37 ?_
      refine j_iload dX5_factAt_38 5 rfl ?_
      refine j_iadd dX5_factAt_40 ?_
      obtain ⟨x2, hx2, hf⟩ := obb hf
      refine m_iald mr_74 hx2 dX5_factAt_41 ?_
      refine j_iload_n dX5_factAt_42 1 rfl ?_
      refine j_icmp_gt (w32 x2) (w32 v3) rfl rfl 94 dX5_factAt_43 (by decide) (fun h7 => ?_) (fun h7 => ?_)
      · replace hf := itb h7 hf
        refine j_iinc dX5_factAt_94 5 rfl [(7, pI (v7 + 1)), (0, pR (some G.1)), (3, pI v3), (4, pI v4), (5, pI v5), (6, pI v6)] (Nat.le_of_ble_eq_true rfl) rfl ?_
        refine j_goto 17 dX5_factAt_97 (by decide) ?_
        exact j_sub [1, 2, 3, 4, 5, 0] _ rfl (ih v5 v6 (v7 + 1) hf)
      · replace hf := ieb h7 hf
        refine j_aload_n dX5_factAt_46 0 rfl ?_
        refine m_geta mf_74 rfl dX5_factAt_47 ?_
        refine j_bipush dX5_factAt_50 (by decide) ?_
        refine j_iload dX5_factAt_52 2 rfl ?_
        refine j_imul dX5_factAt_54 ?_
        refine j_iload dX5_factAt_55 5 rfl ?_
        refine j_iadd dX5_factAt_57 ?_
        obtain ⟨x3, hx3, hf⟩ := obb hf
        refine m_iald mr_74 hx3 dX5_factAt_58 ?_
        refine j_iload dX5_factAt_59 3 rfl ?_
        refine j_icmp_lt (w32 x3) (w32 v5) rfl rfl 94 dX5_factAt_61 (by decide) (fun h6 => ?_) (fun h6 => ?_)
        · replace hf := itb h6 hf
          refine j_iinc dX5_factAt_94 5 rfl [(7, pI (v7 + 1)), (0, pR (some G.1)), (3, pI v3), (4, pI v4), (5, pI v5), (6, pI v6)] (Nat.le_of_ble_eq_true rfl) rfl ?_
          refine j_goto 17 dX5_factAt_97 (by decide) ?_
          exact j_sub [1, 2, 3, 4, 5, 0] _ rfl (ih v5 v6 (v7 + 1) hf)
        · replace hf := ieb h6 hf
          refine j_aload_n dX5_factAt_64 0 rfl ?_
          refine m_geta mf_74 rfl dX5_factAt_65 ?_
          refine j_bipush dX5_factAt_68 (by decide) ?_
          refine j_iload dX5_factAt_70 2 rfl ?_
          refine j_imul dX5_factAt_72 ?_
          refine j_iload dX5_factAt_73 5 rfl ?_
          refine j_iadd dX5_factAt_75 ?_
          obtain ⟨x4, hx4, hf⟩ := obb hf
          refine m_iald mr_74 hx4 dX5_factAt_76 ?_
          refine j_istore dX5_factAt_77 [(5, pI x4), (0, pR (some G.1)), (3, pI v3), (4, pI v4), (6, pI v6), (7, pI v7)] (Nat.le_of_ble_eq_true rfl) rfl ?_
          refine j_aload_n dX5_factAt_79 1 rfl ?_
          refine m_geta mf_73 rfl dX5_factAt_80 ?_
          refine j_bipush dX5_factAt_83 (by decide) ?_
          refine j_iload dX5_factAt_85 3 rfl ?_
          refine j_imul dX5_factAt_87 ?_
          refine j_iload dX5_factAt_88 5 rfl ?_
          refine j_iadd dX5_factAt_90 ?_
          obtain ⟨x5, hx5, hf⟩ := obb hf
          refine m_iald mr_73 hx5 dX5_factAt_91 ?_
          refine j_istore dX5_factAt_92 [(6, pI x5), (5, pI x4), (0, pR (some G.1)), (3, pI v3), (4, pI v4), (7, pI v7)] (Nat.le_of_ble_eq_true rfl) rfl ?_
          refine j_iinc dX5_factAt_94 5 rfl [(7, pI (v7 + 1)), (6, pI x5), (5, pI x4), (0, pR (some G.1)), (3, pI v3), (4, pI v4)] (Nat.le_of_ble_eq_true rfl) rfl ?_
          refine j_goto 17 dX5_factAt_97 (by decide) ?_
          exact j_sub [3, 4, 5, 2, 1, 0] _ rfl (ih x4 x5 (v7 + 1) hf)
theorem c5_factAt {G : MG} {l : Launch} {r : Int} (v1 : Int) (v2 : Int) (v3 : Int) (u : Mu) (hf : m5_factAt v1 v2 v3 u = some r) : JM kT (bM G) (aM G) l yX5_factAt D5_factAt [pR (some G.1), pI v1, pI v2, pI v3] u (some (pI r)) u 0 0 := by
  refine j_met (lv0 := [(0, pR (some G.1)), (1, pI v1), (2, pI v2), (3, pI v3)]) ⟨pl_X5, rfl, rfl, (Nat.le_of_ble_eq_true rfl), rfl⟩ ?_
  unfold m5_factAt at hf
  refine j_bipush dX5_factAt_0 (by decide) ?_
  refine j_iload_n dX5_factAt_2 1 rfl ?_
  refine j_imul dX5_factAt_3 ?_
  refine j_iload_n dX5_factAt_4 2 rfl ?_
  refine j_iadd dX5_factAt_5 ?_
  refine j_istore dX5_factAt_6 [(4, pI ((8 * v1) + v2)), (0, pR (some G.1)), (1, pI v1), (2, pI v2), (3, pI v3)] (Nat.le_of_ble_eq_true rfl) rfl ?_
  refine j_iconst dX5_factAt_8 ?_
  refine j_istore dX5_factAt_9 [(5, pI (-1)), (4, pI ((8 * v1) + v2)), (0, pR (some G.1)), (1, pI v1), (2, pI v2), (3, pI v3)] (Nat.le_of_ble_eq_true rfl) rfl ?_
  refine j_iconst dX5_factAt_11 ?_
  refine j_istore dX5_factAt_12 [(6, pI (-1)), (5, pI (-1)), (4, pI ((8 * v1) + v2)), (0, pR (some G.1)), (1, pI v1), (2, pI v2), (3, pI v3)] (Nat.le_of_ble_eq_true rfl) rfl ?_
  refine j_iconst dX5_factAt_14 ?_
  refine j_istore dX5_factAt_15 [(7, pI 0), (6, pI (-1)), (5, pI (-1)), (4, pI ((8 * v1) + v2)), (0, pR (some G.1)), (1, pI v1), (2, pI v2), (3, pI v3)] (Nat.le_of_ble_eq_true rfl) rfl ?_
  refine j_sub [4, 7, 3, 2, 1, 0] _ rfl (c5_factAt_l17 v3 ((8 * v1) + v2) u ?_ NN (-1) (-1) 0 hf)
  · intro q1 hf
    refine j_iload dX5_factAt_100 0 rfl ?_
    replace hf := Option.some.inj hf
    subst hf
    exact j_ireturn (bM_mv G) ⟨Nat.le_refl 0, Nat.le_refl 0⟩ rfl dX5_factAt_102
theorem c5_fact {G : MG} {l : Launch} {r : Int} (v1 : Int) (v2 : Int) (v3 : Int) (u : Mu) (hf : m5_fact v1 v2 v3 u = some r) : JM kT (bM G) (aM G) l yX5_fact D5_fact [pR (some G.1), pI v1, pI v2, pI v3] u (some (pI r)) u 0 0 := by
  refine j_met (lv0 := [(0, pR (some G.1)), (1, pI v1), (2, pI v2), (3, pI v3)]) ⟨pl_X5, rfl, rfl, (Nat.le_of_ble_eq_true rfl), rfl⟩ ?_
  unfold m5_fact at hf
  refine j_aload_n dX5_fact_0 0 rfl ?_
  refine j_iload_n dX5_fact_1 1 rfl ?_
  obtain ⟨x1, hx1, hf⟩ := ob hf
  refine j_cVr [pI v1] [] kT_v (bM_mv G) (c5_isEvent v1 u hx1) wv5_isEvent dv5_isEvent rfl ⟨(Nat.le_of_ble_eq_true rfl), (Nat.le_of_ble_eq_true rfl)⟩ (m_recv u) rfl (Nat.le_of_ble_eq_true rfl) dX5_fact_2 ⟨Nat.le_refl 0, Nat.le_refl 0⟩ ?_
  refine j_if_eq (w32 x1) rfl 27 dX5_fact_5 (by decide) (fun h9 => ?_) (fun h9 => ?_)
  · replace hf := it h9 hf
    refine j_iconst dX5_fact_27 ?_
    replace hf := Option.some.inj hf
    subst hf
    exact j_ireturn (bM_mv G) ⟨Nat.le_refl 0, Nat.le_refl 0⟩ rfl dX5_fact_28
  · replace hf := ie h9 hf
    refine j_iload_n dX5_fact_8 2 rfl ?_
    refine j_if_lt (w32 v2) rfl 27 dX5_fact_9 (by decide) (fun h8 => ?_) (fun h8 => ?_)
    · replace hf := it h8 hf
      refine j_iconst dX5_fact_27 ?_
      replace hf := Option.some.inj hf
      subst hf
      exact j_ireturn (bM_mv G) ⟨Nat.le_refl 0, Nat.le_refl 0⟩ rfl dX5_fact_28
    · replace hf := ie h8 hf
      refine j_iload_n dX5_fact_12 2 rfl ?_
      refine j_aload_n dX5_fact_13 0 rfl ?_
      refine m_geta mf_12 rfl dX5_fact_14 ?_
      refine j_aload_n dX5_fact_17 0 rfl ?_
      refine m_geta mf_72 rfl dX5_fact_18 ?_
      refine j_iload_n dX5_fact_21 1 rfl ?_
      obtain ⟨x2, hx2, hf⟩ := ob hf
      refine m_iald mr_72 hx2 dX5_fact_22 ?_
      obtain ⟨x3, hx3, hf⟩ := ob hf
      refine m_iald mr_12 hx3 dX5_fact_23 ?_
      refine j_icmp_lt (w32 v2) (w32 x3) rfl rfl 29 dX5_fact_24 (by decide) (fun h7 => ?_) (fun h7 => ?_)
      · replace hf := it h7 hf
        refine j_iload_n dX5_fact_29 3 rfl ?_
        obtain ⟨x4, hx4, hf⟩ := ob hf
        refine j_cSr [pI v3] [] kT_v (bM_mv G) (c5_isDay v3 u hx4) wv5_isDay dv5_isDay rfl ⟨(Nat.le_of_ble_eq_true rfl), (Nat.le_of_ble_eq_true rfl)⟩ rfl (Nat.le_of_ble_eq_true rfl) dX5_fact_30 ⟨Nat.le_refl 0, Nat.le_refl 0⟩ ?_
        refine j_if_eq (w32 x4) rfl 46 dX5_fact_33 (by decide) (fun h6 => ?_) (fun h6 => ?_)
        · replace hf := it h6 hf
          refine j_bipush dX5_fact_46 (by decide) ?_
          replace hf := Option.some.inj hf
          subst hf
          exact j_ireturn (bM_mv G) ⟨Nat.le_refl 0, Nat.le_refl 0⟩ rfl dX5_fact_48
        · replace hf := ie h6 hf
          refine j_aload_n dX5_fact_36 0 rfl ?_
          refine j_iload_n dX5_fact_37 1 rfl ?_
          refine j_iload_n dX5_fact_38 2 rfl ?_
          refine j_iload_n dX5_fact_39 3 rfl ?_
          obtain ⟨x5, hx5, hf⟩ := ob hf
          refine j_cVr [pI v1, pI v2, pI v3] [] kT_v (bM_mv G) (c5_factAt v1 v2 v3 u hx5) wv5_factAt dv5_factAt rfl ⟨(Nat.le_of_ble_eq_true rfl), (Nat.le_of_ble_eq_true rfl)⟩ (m_recv u) rfl (Nat.le_of_ble_eq_true rfl) dX5_fact_40 ⟨Nat.le_refl 0, Nat.le_refl 0⟩ ?_
          refine j_goto 48 dX5_fact_43 (by decide) ?_
          replace hf := Option.some.inj hf
          subst hf
          exact j_ireturn (bM_mv G) ⟨Nat.le_refl 0, Nat.le_refl 0⟩ rfl dX5_fact_48
      · replace hf := ie h7 hf
        refine j_iconst dX5_fact_27 ?_
        replace hf := Option.some.inj hf
        subst hf
        exact j_ireturn (bM_mv G) ⟨Nat.le_refl 0, Nat.le_refl 0⟩ rfl dX5_fact_28
theorem c5_noEvent {G : MG} {l : Launch} {r : Int} (v1 : Int) (v2 : Int) (u : Mu) (hf : m5_noEvent v1 v2 u = some r) : JM kT (bM G) (aM G) l yX5_noEvent D5_noEvent [pR (some G.1), pI v1, pI v2] u (some (pI r)) u 0 0 := by
  refine j_met (lv0 := [(0, pR (some G.1)), (1, pI v1), (2, pI v2)]) ⟨pl_X5, rfl, rfl, (Nat.le_of_ble_eq_true rfl), rfl⟩ ?_
  unfold m5_noEvent at hf
  refine j_aload_n dX5_noEvent_0 0 rfl ?_
  refine j_iload_n dX5_noEvent_1 1 rfl ?_
  obtain ⟨x1, hx1, hf⟩ := ob hf
  refine j_cVr [pI v1] [] kT_v (bM_mv G) (c5_isEvent v1 u hx1) wv5_isEvent dv5_isEvent rfl ⟨(Nat.le_of_ble_eq_true rfl), (Nat.le_of_ble_eq_true rfl)⟩ (m_recv u) rfl (Nat.le_of_ble_eq_true rfl) dX5_noEvent_2 ⟨Nat.le_refl 0, Nat.le_refl 0⟩ ?_
  refine j_if_ne (w32 x1) rfl 12 dX5_noEvent_5 (by decide) (fun h4 => ?_) (fun h4 => ?_)
  · replace hf := ie h4 hf
    refine j_iload_n dX5_noEvent_12 2 rfl ?_
    obtain ⟨x2, hx2, hf⟩ := ob hf
    refine j_cSr [pI v2] [] kT_v (bM_mv G) (c5_isDay v2 u hx2) wv5_isDay dv5_isDay rfl ⟨(Nat.le_of_ble_eq_true rfl), (Nat.le_of_ble_eq_true rfl)⟩ rfl (Nat.le_of_ble_eq_true rfl) dX5_noEvent_13 ⟨Nat.le_refl 0, Nat.le_refl 0⟩ ?_
    refine j_if_eq (w32 x2) rfl 23 dX5_noEvent_16 (by decide) (fun h3 => ?_) (fun h3 => ?_)
    · replace hf := it h3 hf
      refine j_bipush dX5_noEvent_23 (by decide) ?_
      replace hf := Option.some.inj hf
      subst hf
      exact j_ireturn (bM_mv G) ⟨Nat.le_refl 0, Nat.le_refl 0⟩ rfl dX5_noEvent_25
    · replace hf := ie h3 hf
      refine j_iconst dX5_noEvent_19 ?_
      refine j_goto 25 dX5_noEvent_20 (by decide) ?_
      replace hf := Option.some.inj hf
      subst hf
      exact j_ireturn (bM_mv G) ⟨Nat.le_refl 0, Nat.le_refl 0⟩ rfl dX5_noEvent_25
  · replace hf := it h4 hf
    refine j_iconst dX5_noEvent_8 ?_
    refine j_goto 25 dX5_noEvent_9 (by decide) ?_
    replace hf := Option.some.inj hf
    subst hf
    exact j_ireturn (bM_mv G) ⟨Nat.le_refl 0, Nat.le_refl 0⟩ rfl dX5_noEvent_25
theorem c5_firstWay_l2 {G : MG} {l : Launch} {a : List PV} {r : Mu} {Kf : Mu → Option (Mu)} (v1 : Int) (hK0 : ∀ q : Mu, Kf q = some r → J5 G l D5_firstWay a none r q 43 [] []) : ∀ (n : Nat) (v2 : Int) (u : Mu), ((m5_firstWay_l2 v1 n v2 u).bind Kf = some r) → J5 G l D5_firstWay a none r u 2 [(0, pR (some G.1)), (1, pI v1), (2, pI v2)] [] := by
  intro n
  induction n with
  | zero => intro v2 u hf; exact onb hf
  | succ n ih =>
    intro v2 u hf
    unfold m5_firstWay_l2 at hf
    refine j_iload_n dX5_firstWay_2 2 rfl ?_
    refine j_aload_n dX5_firstWay_3 0 rfl ?_
    refine m_geta mf_12 rfl dX5_firstWay_4 ?_
    refine j_iload_n dX5_firstWay_7 1 rfl ?_
    obtain ⟨x1, hx1, hf⟩ := obb hf
    refine m_iald mr_12 hx1 dX5_firstWay_8 ?_
    refine j_icmp_ge (w32 v2) (w32 x1) rfl rfl 43 dX5_firstWay_9 (by decide) (fun h7 => ?_) (fun h7 => ?_)
    · replace hf := itb h7 hf
      exact j_sub [] _ rfl (hK0 u hf)
    · replace hf := ieb h7 hf
      refine j_aload_n dX5_firstWay_12 0 rfl ?_
      refine m_geta mf_77 rfl dX5_firstWay_13 ?_
      refine j_iload_n dX5_firstWay_16 2 rfl ?_
      refine j_aload_n dX5_firstWay_17 0 rfl ?_
      refine m_geta mf_76 rfl dX5_firstWay_18 ?_
      refine j_iload_n dX5_firstWay_21 2 rfl ?_
      obtain ⟨x2, hx2, hf⟩ := obb hf
      refine m_iald mr_76 hx2 dX5_firstWay_22 ?_
      refine j_if_ge (w32 x2) rfl 30 dX5_firstWay_23 (by decide) (fun h6 => ?_) (fun h6 => ?_)
      · replace hf := itb h6 hf
        refine j_aload_n dX5_firstWay_30 0 rfl ?_
        refine m_geta mf_76 rfl dX5_firstWay_31 ?_
        refine j_iload_n dX5_firstWay_34 2 rfl ?_
        obtain ⟨x3, hx3, hf⟩ := obb hf
        refine m_iald mr_76 hx3 dX5_firstWay_35 ?_
        obtain ⟨u4, hu4, hf⟩ := obb hf
        refine m_iast mr_77 hu4 dX5_firstWay_36 ?_
        refine j_iinc dX5_firstWay_37 2 rfl [(2, pI (v2 + 1)), (0, pR (some G.1)), (1, pI v1)] (Nat.le_of_ble_eq_true rfl) rfl ?_
        refine j_goto 2 dX5_firstWay_40 (by decide) ?_
        exact j_sub [1, 2, 0] _ rfl (ih (v2 + 1) u4 hf)
      · replace hf := ieb h6 hf
        refine j_iconst dX5_firstWay_26 ?_
        refine j_goto 36 dX5_firstWay_27 (by decide) ?_
        obtain ⟨u5, hu5, hf⟩ := obb hf
        refine m_iast mr_77 hu5 dX5_firstWay_36 ?_
        refine j_iinc dX5_firstWay_37 2 rfl [(2, pI (v2 + 1)), (0, pR (some G.1)), (1, pI v1)] (Nat.le_of_ble_eq_true rfl) rfl ?_
        refine j_goto 2 dX5_firstWay_40 (by decide) ?_
        exact j_sub [1, 2, 0] _ rfl (ih (v2 + 1) u5 hf)
theorem c5_firstWay {G : MG} {l : Launch} {r : Mu} (v1 : Int) (u : Mu) (hf : m5_firstWay v1 u = some r) : JM kT (bM G) (aM G) l yX5_firstWay D5_firstWay [pR (some G.1), pI v1] u none r 0 0 := by
  refine j_met (lv0 := [(0, pR (some G.1)), (1, pI v1)]) ⟨pl_X5, rfl, rfl, (Nat.le_of_ble_eq_true rfl), rfl⟩ ?_
  unfold m5_firstWay at hf
  refine j_iconst dX5_firstWay_0 ?_
  refine j_istore_n dX5_firstWay_1 [(2, pI 0), (0, pR (some G.1)), (1, pI v1)] (Nat.le_of_ble_eq_true rfl) rfl ?_
  refine j_sub [1, 2, 0] _ rfl (c5_firstWay_l2 v1 ?_ NN 0 u hf)
  · intro q1 hf
    replace hf := Option.some.inj hf
    subst hf
    exact j_return (bM_mv G) ⟨Nat.le_refl 0, Nat.le_refl 0⟩ rfl dX5_firstWay_43
theorem c5_nextWay_l9 {G : MG} {l : Launch} {a : List PV} {r : Int × Mu} {Kf : (Mu) ⊕ (Mu) → Option (Int × Mu)} (v1 : Int) (hK0 : ∀ q : Mu, Kf (.inl q) = some r → J5 G l D5_nextWay a (some (pI r.1)) r.2 q 55 [] []) (hK1 : ∀ q : Mu, Kf (.inr q) = some r → J5 G l D5_nextWay a (some (pI r.1)) r.2 q 70 [] []) : ∀ (n : Nat) (v2 : Int) (u : Mu), ((m5_nextWay_l9 v1 n v2 u).bind Kf = some r) → J5 G l D5_nextWay a (some (pI r.1)) r.2 u 9 [(0, pR (some G.1)), (1, pI v1), (2, pI v2)] [] := by
  intro n
  induction n with
  | zero => intro v2 u hf; exact onb hf
  | succ n ih =>
    intro v2 u hf
    unfold m5_nextWay_l9 at hf
    refine j_iload_n dX5_nextWay_9 2 rfl ?_
    refine j_if_lt (w32 v2) rfl 70 dX5_nextWay_10 (by decide) (fun h9 => ?_) (fun h9 => ?_)
    · replace hf := itb h9 hf
      exact j_sub [] _ rfl (hK1 u hf)
    · replace hf := ieb h9 hf
      refine j_aload_n dX5_nextWay_13 0 rfl ?_
      refine m_geta mf_76 rfl dX5_nextWay_14 ?_
      refine j_iload_n dX5_nextWay_17 2 rfl ?_
      obtain ⟨x1, hx1, hf⟩ := obb hf
      refine m_iald mr_76 hx1 dX5_nextWay_18 ?_
      refine j_if_lt (w32 x1) rfl 25 dX5_nextWay_19 (by decide) (fun h8 => ?_) (fun h8 => ?_)
      · replace hf := itb h8 hf
        refine j_aload_n dX5_nextWay_25 0 rfl ?_
        refine m_geta mf_77 rfl dX5_nextWay_26 ?_
        refine j_iload_n dX5_nextWay_29 2 rfl ?_
        refine j_dup2_11 dX5_nextWay_30 rfl rfl ?_
        obtain ⟨x2, hx2, hf⟩ := obb hf
        refine m_iald mr_77 hx2 dX5_nextWay_31 ?_
        refine j_iconst dX5_nextWay_32 ?_
        refine j_iadd dX5_nextWay_33 ?_
        obtain ⟨u3, hu3, hf⟩ := obb hf
        refine m_iast mr_77 hu3 dX5_nextWay_34 ?_
        refine j_aload_n dX5_nextWay_35 0 rfl ?_
        refine m_geta mf_77 rfl dX5_nextWay_36 ?_
        refine j_iload_n dX5_nextWay_39 2 rfl ?_
        obtain ⟨x4, hx4, hf⟩ := obb hf
        refine m_iald mr_77 hx4 dX5_nextWay_40 ?_
        refine j_aload_n dX5_nextWay_41 0 rfl ?_
        refine m_geta mf_39 rfl dX5_nextWay_42 ?_
        refine j_bipush dX5_nextWay_45 (by decide) ?_
        refine j_iload_n dX5_nextWay_47 1 rfl ?_
        refine j_imul dX5_nextWay_48 ?_
        refine j_iload_n dX5_nextWay_49 2 rfl ?_
        refine j_iadd dX5_nextWay_50 ?_
        obtain ⟨x5, hx5, hf⟩ := obb hf
        refine m_iald mr_39 hx5 dX5_nextWay_51 ?_
        refine j_icmp_ge (w32 x4) (w32 x5) rfl rfl 57 dX5_nextWay_52 (by decide) (fun h7 => ?_) (fun h7 => ?_)
        · replace hf := itb h7 hf
          refine j_aload_n dX5_nextWay_57 0 rfl ?_
          refine m_geta mf_77 rfl dX5_nextWay_58 ?_
          refine j_iload_n dX5_nextWay_61 2 rfl ?_
          refine j_iconst dX5_nextWay_62 ?_
          obtain ⟨u6, hu6, hf⟩ := obb hf
          refine m_iast mr_77 hu6 dX5_nextWay_63 ?_
          refine j_iinc dX5_nextWay_64 2 rfl [(2, pI (v2 + (-1))), (0, pR (some G.1)), (1, pI v1)] (Nat.le_of_ble_eq_true rfl) rfl ?_
          refine j_goto 9 dX5_nextWay_67 (by decide) ?_
          exact j_sub [1, 2, 0] _ rfl (ih (v2 + (-1)) u6 hf)
        · replace hf := ieb h7 hf
          exact j_sub [] _ rfl (hK0 u3 hf)
      · replace hf := ieb h8 hf
        refine j_goto 64 dX5_nextWay_22 (by decide) ?_
        refine j_iinc dX5_nextWay_64 2 rfl [(2, pI (v2 + (-1))), (0, pR (some G.1)), (1, pI v1)] (Nat.le_of_ble_eq_true rfl) rfl ?_
        refine j_goto 9 dX5_nextWay_67 (by decide) ?_
        exact j_sub [1, 2, 0] _ rfl (ih (v2 + (-1)) u hf)
theorem c5_nextWay {G : MG} {l : Launch} {r : Int × Mu} (v1 : Int) (u : Mu) (hf : m5_nextWay v1 u = some r) : JM kT (bM G) (aM G) l yX5_nextWay D5_nextWay [pR (some G.1), pI v1] u (some (pI r.1)) r.2 0 0 := by
  refine j_met (lv0 := [(0, pR (some G.1)), (1, pI v1)]) ⟨pl_X5, rfl, rfl, (Nat.le_of_ble_eq_true rfl), rfl⟩ ?_
  unfold m5_nextWay at hf
  refine j_aload_n dX5_nextWay_0 0 rfl ?_
  refine m_geta mf_12 rfl dX5_nextWay_1 ?_
  refine j_iload_n dX5_nextWay_4 1 rfl ?_
  obtain ⟨x1, hx1, hf⟩ := ob hf
  refine m_iald mr_12 hx1 dX5_nextWay_5 ?_
  refine j_iconst dX5_nextWay_6 ?_
  refine j_isub dX5_nextWay_7 ?_
  refine j_istore_n dX5_nextWay_8 [(2, pI (x1 - 1)), (0, pR (some G.1)), (1, pI v1)] (Nat.le_of_ble_eq_true rfl) rfl ?_
  refine j_sub [1, 2, 0] _ rfl (c5_nextWay_l9 v1 ?_ ?_ NN (x1 - 1) u hf)
  · intro q2 hf
    simp only [Sum.elim_inl, Sum.elim_inr] at hf
    refine j_iconst dX5_nextWay_55 ?_
    replace hf := Option.some.inj hf
    subst hf
    exact j_zreturn (x := 1) (bM_mv G) ⟨Nat.le_refl 0, Nat.le_refl 0⟩ (ty := .boolean) rfl (nar_z (Or.inr rfl)) dX5_nextWay_56
  · intro q3 hf
    simp only [Sum.elim_inl, Sum.elim_inr] at hf
    refine j_iconst dX5_nextWay_70 ?_
    replace hf := Option.some.inj hf
    subst hf
    exact j_zreturn (x := 0) (bM_mv G) ⟨Nat.le_refl 0, Nat.le_refl 0⟩ (ty := .boolean) rfl (nar_z (Or.inl rfl)) dX5_nextWay_71
theorem c5_wayAnswer_l4 {G : MG} {l : Launch} {a : List PV} {r : Int} {Kf : Int → Option (Int)} (v1 : Int) (u : Mu) (hK0 : ∀ q : Int, Kf q = some r → J5 G l D5_wayAnswer a (some (pI r)) u u 41 [(0, pR (some G.1)), (1, pI v1), (2, pI q)] []) : ∀ (n : Nat) (v2 : Int) (v3 : Int), ((m5_wayAnswer_l4 v1 u n v2 v3).bind Kf = some r) → J5 G l D5_wayAnswer a (some (pI r)) u u 4 [(0, pR (some G.1)), (1, pI v1), (2, pI v2), (3, pI v3)] [] := by
  intro n
  induction n with
  | zero => intro v2 v3 hf; exact onb hf
  | succ n ih =>
    intro v2 v3 hf
    unfold m5_wayAnswer_l4 at hf
    refine j_iload_n dX5_wayAnswer_4 3 rfl ?_
    refine j_aload_n dX5_wayAnswer_5 0 rfl ?_
    refine m_geta mf_12 rfl dX5_wayAnswer_6 ?_
    refine j_iload_n dX5_wayAnswer_9 1 rfl ?_
    obtain ⟨x1, hx1, hf⟩ := obb hf
    refine m_iald mr_12 hx1 dX5_wayAnswer_10 ?_
    refine j_icmp_ge (w32 v3) (w32 x1) rfl rfl 41 dX5_wayAnswer_11 (by decide) (fun h4 => ?_) (fun h4 => ?_)
    · replace hf := itb h4 hf
      exact j_sub [0, 1, 2] _ rfl (hK0 v2 hf)
    · replace hf := ieb h4 hf
      refine j_iload_n dX5_wayAnswer_14 2 rfl ?_
      refine j_aload_n dX5_wayAnswer_15 0 rfl ?_
      refine m_geta mf_39 rfl dX5_wayAnswer_16 ?_
      refine j_bipush dX5_wayAnswer_19 (by decide) ?_
      refine j_iload_n dX5_wayAnswer_21 1 rfl ?_
      refine j_imul dX5_wayAnswer_22 ?_
      refine j_iload_n dX5_wayAnswer_23 3 rfl ?_
      refine j_iadd dX5_wayAnswer_24 ?_
      obtain ⟨x2, hx2, hf⟩ := obb hf
      refine m_iald mr_39 hx2 dX5_wayAnswer_25 ?_
      refine j_imul dX5_wayAnswer_26 ?_
      refine j_aload_n dX5_wayAnswer_27 0 rfl ?_
      refine m_geta mf_77 rfl dX5_wayAnswer_28 ?_
      refine j_iload_n dX5_wayAnswer_31 3 rfl ?_
      obtain ⟨x3, hx3, hf⟩ := obb hf
      refine m_iald mr_77 hx3 dX5_wayAnswer_32 ?_
      refine j_iadd dX5_wayAnswer_33 ?_
      refine j_istore_n dX5_wayAnswer_34 [(2, pI ((v2 * x2) + x3)), (0, pR (some G.1)), (1, pI v1), (3, pI v3)] (Nat.le_of_ble_eq_true rfl) rfl ?_
      refine j_iinc dX5_wayAnswer_35 3 rfl [(3, pI (v3 + 1)), (2, pI ((v2 * x2) + x3)), (0, pR (some G.1)), (1, pI v1)] (Nat.le_of_ble_eq_true rfl) rfl ?_
      refine j_goto 4 dX5_wayAnswer_38 (by decide) ?_
      exact j_sub [2, 3, 1, 0] _ rfl (ih ((v2 * x2) + x3) (v3 + 1) hf)
theorem c5_wayAnswer {G : MG} {l : Launch} {r : Int} (v1 : Int) (u : Mu) (hf : m5_wayAnswer v1 u = some r) : JM kT (bM G) (aM G) l yX5_wayAnswer D5_wayAnswer [pR (some G.1), pI v1] u (some (pI r)) u 0 0 := by
  refine j_met (lv0 := [(0, pR (some G.1)), (1, pI v1)]) ⟨pl_X5, rfl, rfl, (Nat.le_of_ble_eq_true rfl), rfl⟩ ?_
  unfold m5_wayAnswer at hf
  refine j_iconst dX5_wayAnswer_0 ?_
  refine j_istore_n dX5_wayAnswer_1 [(2, pI 0), (0, pR (some G.1)), (1, pI v1)] (Nat.le_of_ble_eq_true rfl) rfl ?_
  refine j_iconst dX5_wayAnswer_2 ?_
  refine j_istore_n dX5_wayAnswer_3 [(3, pI 0), (2, pI 0), (0, pR (some G.1)), (1, pI v1)] (Nat.le_of_ble_eq_true rfl) rfl ?_
  refine j_sub [2, 3, 1, 0] _ rfl (c5_wayAnswer_l4 v1 u ?_ NN 0 0 hf)
  · intro q1 hf
    refine j_aload_n dX5_wayAnswer_41 0 rfl ?_
    refine m_geta mf_41 rfl dX5_wayAnswer_42 ?_
    refine j_sipush dX5_wayAnswer_45 (by decide) ?_
    refine j_iload_n dX5_wayAnswer_48 1 rfl ?_
    refine j_imul dX5_wayAnswer_49 ?_
    refine j_iload_n dX5_wayAnswer_50 2 rfl ?_
    refine j_iadd dX5_wayAnswer_51 ?_
    obtain ⟨x2, hx2, hf⟩ := ob hf
    refine m_zald mr_41 hx2 dX5_wayAnswer_52 ?_
    rcases Decidable.em (w32 x2 = 0 ∨ w32 x2 = 1) with h3 | h3
    · replace hf := it h3 hf
      replace hf := Option.some.inj hf
      subst hf
      exact j_zreturn (x := x2) (bM_mv G) ⟨Nat.le_refl 0, Nat.le_refl 0⟩ (ty := .boolean) rfl (nar_z h3) dX5_wayAnswer_53
    · exact onn (ie h3 hf)
theorem c5_settled_l11 {G : MG} {l : Launch} {a : List PV} {r : Int × Mu} {Kf : (Mu) ⊕ (Mu) → Option (Int × Mu)} (v1 : Int) (v2 : Int) (hK0 : ∀ q : Mu, Kf (.inl q) = some r → J5 G l D5_settled a (some (pI r.1)) r.2 q 28 [] []) (hK1 : ∀ q : Mu, Kf (.inr q) = some r → J5 G l D5_settled a (some (pI r.1)) r.2 q 30 [(2, pI v2)] []) : ∀ (n : Nat) (u : Mu), ((m5_settled_l11 v1 v2 n u).bind Kf = some r) → J5 G l D5_settled a (some (pI r.1)) r.2 u 11 [(0, pR (some G.1)), (1, pI v1), (2, pI v2)] [] := by
  intro n
  induction n with
  | zero => intro u hf; exact onb hf
  | succ n ih =>
    intro u hf
    unfold m5_settled_l11 at hf
    refine j_aload_n dX5_settled_11 0 rfl ?_
    refine j_iload_n dX5_settled_12 1 rfl ?_
    obtain ⟨q1, hq1, hf⟩ := obb hf
    refine j_cVr [pI v1] [] kT_v (bM_mv G) (c5_nextWay v1 u hq1) wv5_nextWay dv5_nextWay rfl ⟨(Nat.le_of_ble_eq_true rfl), (Nat.le_of_ble_eq_true rfl)⟩ (m_recv u) rfl (Nat.le_of_ble_eq_true rfl) dX5_settled_13 ⟨Nat.le_refl 0, Nat.le_refl 0⟩ ?_
    refine j_if_eq (w32 q1.1) rfl 30 dX5_settled_16 (by decide) (fun h4 => ?_) (fun h4 => ?_)
    · replace hf := itb h4 hf
      exact j_sub [2] _ rfl (hK1 q1.2 hf)
    · replace hf := ieb h4 hf
      refine j_aload_n dX5_settled_19 0 rfl ?_
      refine j_iload_n dX5_settled_20 1 rfl ?_
      obtain ⟨x2, hx2, hf⟩ := obb hf
      refine j_cVr [pI v1] [] kT_v (bM_mv G) (c5_wayAnswer v1 q1.2 hx2) wv5_wayAnswer dv5_wayAnswer rfl ⟨(Nat.le_of_ble_eq_true rfl), (Nat.le_of_ble_eq_true rfl)⟩ (m_recv q1.2) rfl (Nat.le_of_ble_eq_true rfl) dX5_settled_21 ⟨Nat.le_refl 0, Nat.le_refl 0⟩ ?_
      refine j_iload_n dX5_settled_24 2 rfl ?_
      refine j_icmp_eq (w32 x2) (w32 v2) rfl rfl 11 dX5_settled_25 (by decide) (fun h3 => ?_) (fun h3 => ?_)
      · replace hf := itb h3 hf
        exact j_sub [0, 1, 2] _ rfl (ih q1.2 hf)
      · replace hf := ieb h3 hf
        exact j_sub [] _ rfl (hK0 q1.2 hf)
theorem c5_settled {G : MG} {l : Launch} {r : Int × Mu} (v1 : Int) (u : Mu) (hf : m5_settled v1 u = some r) : JM kT (bM G) (aM G) l yX5_settled D5_settled [pR (some G.1), pI v1] u (some (pI r.1)) r.2 0 0 := by
  refine j_met (lv0 := [(0, pR (some G.1)), (1, pI v1)]) ⟨pl_X5, rfl, rfl, (Nat.le_of_ble_eq_true rfl), rfl⟩ ?_
  unfold m5_settled at hf
  refine j_aload_n dX5_settled_0 0 rfl ?_
  refine j_iload_n dX5_settled_1 1 rfl ?_
  obtain ⟨u1, hu1, hf⟩ := ob hf
  refine j_cVv [pI v1] [] kT_v (bM_mv G) (c5_firstWay v1 u hu1) wv5_firstWay dv5_firstWay rfl ⟨(Nat.le_of_ble_eq_true rfl), (Nat.le_of_ble_eq_true rfl)⟩ (m_recv u) rfl (Nat.le_of_ble_eq_true rfl) dX5_settled_2 ⟨Nat.le_refl 0, Nat.le_refl 0⟩ ?_
  refine j_aload_n dX5_settled_5 0 rfl ?_
  refine j_iload_n dX5_settled_6 1 rfl ?_
  obtain ⟨x2, hx2, hf⟩ := ob hf
  refine j_cVr [pI v1] [] kT_v (bM_mv G) (c5_wayAnswer v1 u1 hx2) wv5_wayAnswer dv5_wayAnswer rfl ⟨(Nat.le_of_ble_eq_true rfl), (Nat.le_of_ble_eq_true rfl)⟩ (m_recv u1) rfl (Nat.le_of_ble_eq_true rfl) dX5_settled_7 ⟨Nat.le_refl 0, Nat.le_refl 0⟩ ?_
  refine j_istore_n dX5_settled_10 [(2, pI x2), (0, pR (some G.1)), (1, pI v1)] (Nat.le_of_ble_eq_true rfl) rfl ?_
  refine j_sub [1, 2, 0] _ rfl (c5_settled_l11 v1 x2 ?_ ?_ NN u1 hf)
  · intro q3 hf
    simp only [Sum.elim_inl, Sum.elim_inr] at hf
    refine j_iconst dX5_settled_28 ?_
    replace hf := Option.some.inj hf
    subst hf
    exact j_ireturn (bM_mv G) ⟨Nat.le_refl 0, Nat.le_refl 0⟩ rfl dX5_settled_29
  · intro q4 hf
    simp only [Sum.elim_inl, Sum.elim_inr] at hf
    refine j_iload_n dX5_settled_30 0 rfl ?_
    refine j_if_eq (w32 x2) rfl 38 dX5_settled_31 (by decide) (fun h5 => ?_) (fun h5 => ?_)
    · replace hf := it h5 hf
      refine j_iconst dX5_settled_38 ?_
      replace hf := Option.some.inj hf
      subst hf
      exact j_ireturn (bM_mv G) ⟨Nat.le_refl 0, Nat.le_refl 0⟩ rfl dX5_settled_39
    · replace hf := ie h5 hf
      refine j_iconst dX5_settled_34 ?_
      refine j_goto 39 dX5_settled_35 (by decide) ?_
      replace hf := Option.some.inj hf
      subst hf
      exact j_ireturn (bM_mv G) ⟨Nat.le_refl 0, Nat.le_refl 0⟩ rfl dX5_settled_39
theorem c5_takeDigits_l3 {G : MG} {l : Launch} {a : List PV} {r : Mu} {Kf : Mu → Option (Mu)} (v1 : Int) (v2 : Int) (v3 : Int) (hK0 : ∀ q : Mu, Kf q = some r → J5 G l D5_takeDigits a none r q 55 [] []) : ∀ (n : Nat) (v4 : Int) (u : Mu), ((m5_takeDigits_l3 v1 v2 v3 n v4 u).bind Kf = some r) → J5 G l D5_takeDigits a none r u 3 [(0, pR (some G.1)), (1, pI v1), (2, pI v2), (3, pI v3), (4, pI v4)] [] := by
  intro n
  induction n with
  | zero => intro v4 u hf; exact onb hf
  | succ n ih =>
    intro v4 u hf
    unfold m5_takeDigits_l3 at hf
    refine j_iload dX5_takeDigits_3 4 rfl ?_
    refine j_aload_n dX5_takeDigits_5 0 rfl ?_
    refine m_geta mf_12 rfl dX5_takeDigits_6 ?_
    refine j_iload_n dX5_takeDigits_9 1 rfl ?_
    obtain ⟨x1, hx1, hf⟩ := obb hf
    refine m_iald mr_12 hx1 dX5_takeDigits_10 ?_
    refine j_icmp_ge (w32 v4) (w32 x1) rfl rfl 55 dX5_takeDigits_11 (by decide) (fun h7 => ?_) (fun h7 => ?_)
    · replace hf := itb h7 hf
      exact j_sub [] _ rfl (hK0 u hf)
    · replace hf := ieb h7 hf
      refine j_aload_n dX5_takeDigits_14 0 rfl ?_
      refine j_iload_n dX5_takeDigits_15 2 rfl ?_
      refine j_iload dX5_takeDigits_16 4 rfl ?_
      refine j_iload_n dX5_takeDigits_18 3 rfl ?_
      obtain ⟨x2, hx2, hf⟩ := obb hf
      refine j_cVr [pI v2, pI v4, pI v3] [] kT_v (bM_mv G) (c5_factAt v2 v4 v3 u hx2) wv5_factAt dv5_factAt rfl ⟨(Nat.le_of_ble_eq_true rfl), (Nat.le_of_ble_eq_true rfl)⟩ (m_recv u) rfl (Nat.le_of_ble_eq_true rfl) dX5_takeDigits_19 ⟨Nat.le_refl 0, Nat.le_refl 0⟩ ?_
      refine j_istore dX5_takeDigits_22 [(5, pI x2), (0, pR (some G.1)), (1, pI v1), (2, pI v2), (3, pI v3), (4, pI v4)] (Nat.le_of_ble_eq_true rfl) rfl ?_
      refine j_aload_n dX5_takeDigits_24 1 rfl ?_
      refine m_geta mf_76 rfl dX5_takeDigits_25 ?_
      refine j_iload dX5_takeDigits_28 5 rfl ?_
      refine j_iload dX5_takeDigits_30 0 rfl ?_
      refine j_if_ge (w32 x2) rfl 39 dX5_takeDigits_32 (by decide) (fun h6 => ?_) (fun h6 => ?_)
      · replace hf := itb h6 hf
        refine j_aload_n dX5_takeDigits_39 1 rfl ?_
        refine j_iload_n dX5_takeDigits_40 2 rfl ?_
        refine j_iload dX5_takeDigits_41 5 rfl ?_
        refine j_iload dX5_takeDigits_43 0 rfl ?_
        obtain ⟨x3, hx3, hf⟩ := obb hf
        refine j_cVr [pI v1, pI v4, pI x2] [pI v4, pR (some (G.2.1 76))] kT_v (bM_mv G) (c5_digitOf v1 v4 x2 u hx3) wv5_digitOf dv5_digitOf rfl ⟨(Nat.le_of_ble_eq_true rfl), (Nat.le_of_ble_eq_true rfl)⟩ (m_recv u) rfl (Nat.le_of_ble_eq_true rfl) dX5_takeDigits_45 ⟨Nat.le_refl 0, Nat.le_refl 0⟩ ?_
        obtain ⟨u4, hu4, hf⟩ := obb hf
        refine m_iast mr_76 hu4 dX5_takeDigits_48 ?_
        refine j_iinc dX5_takeDigits_49 5 rfl [(4, pI (v4 + 1)), (5, pI x2), (0, pR (some G.1)), (1, pI v1), (2, pI v2), (3, pI v3)] (Nat.le_of_ble_eq_true rfl) rfl ?_
        refine j_goto 3 dX5_takeDigits_52 (by decide) ?_
        exact j_sub [2, 3, 4, 5, 0] _ rfl (ih (v4 + 1) u4 hf)
      · replace hf := ieb h6 hf
        refine j_iconst dX5_takeDigits_35 ?_
        refine j_goto 48 dX5_takeDigits_36 (by decide) ?_
        obtain ⟨u5, hu5, hf⟩ := obb hf
        refine m_iast mr_76 hu5 dX5_takeDigits_48 ?_
        refine j_iinc dX5_takeDigits_49 5 rfl [(4, pI (v4 + 1)), (5, pI x2), (0, pR (some G.1)), (1, pI v1), (2, pI v2), (3, pI v3)] (Nat.le_of_ble_eq_true rfl) rfl ?_
        refine j_goto 3 dX5_takeDigits_52 (by decide) ?_
        exact j_sub [2, 3, 4, 5, 0] _ rfl (ih (v4 + 1) u5 hf)
theorem c5_takeDigits {G : MG} {l : Launch} {r : Mu} (v1 : Int) (v2 : Int) (v3 : Int) (u : Mu) (hf : m5_takeDigits v1 v2 v3 u = some r) : JM kT (bM G) (aM G) l yX5_takeDigits D5_takeDigits [pR (some G.1), pI v1, pI v2, pI v3] u none r 0 0 := by
  refine j_met (lv0 := [(0, pR (some G.1)), (1, pI v1), (2, pI v2), (3, pI v3)]) ⟨pl_X5, rfl, rfl, (Nat.le_of_ble_eq_true rfl), rfl⟩ ?_
  unfold m5_takeDigits at hf
  refine j_iconst dX5_takeDigits_0 ?_
  refine j_istore dX5_takeDigits_1 [(4, pI 0), (0, pR (some G.1)), (1, pI v1), (2, pI v2), (3, pI v3)] (Nat.le_of_ble_eq_true rfl) rfl ?_
  refine j_sub [1, 2, 3, 4, 0] _ rfl (c5_takeDigits_l3 v1 v2 v3 ?_ NN 0 u hf)
  · intro q1 hf
    replace hf := Option.some.inj hf
    subst hf
    exact j_return (bM_mv G) ⟨Nat.le_refl 0, Nat.le_refl 0⟩ rfl dX5_takeDigits_55
theorem c5_covers {G : MG} {l : Launch} {r : Int × Mu} (v1 : Int) (v2 : Int) (u : Mu) (hf : m5_covers v1 v2 u = some r) : JM kT (bM G) (aM G) l yX5_covers D5_covers [pR (some G.1), pI v1, pI v2] u (some (pI r.1)) r.2 0 0 := by
  refine j_met (lv0 := [(0, pR (some G.1)), (1, pI v1), (2, pI v2)]) ⟨pl_X5, rfl, rfl, (Nat.le_of_ble_eq_true rfl), rfl⟩ ?_
  unfold m5_covers at hf
  refine j_aload_n dX5_covers_0 0 rfl ?_
  refine j_iload_n dX5_covers_1 1 rfl ?_
  refine j_iload_n dX5_covers_2 2 rfl ?_
  obtain ⟨x1, hx1, hf⟩ := ob hf
  refine j_cVr [pI v1, pI v2] [] kT_v (bM_mv G) (c5_noEvent v1 v2 u hx1) wv5_noEvent dv5_noEvent rfl ⟨(Nat.le_of_ble_eq_true rfl), (Nat.le_of_ble_eq_true rfl)⟩ (m_recv u) rfl (Nat.le_of_ble_eq_true rfl) dX5_covers_3 ⟨Nat.le_refl 0, Nat.le_refl 0⟩ ?_
  refine j_if_ge (w32 x1) rfl 16 dX5_covers_6 (by decide) (fun h7 => ?_) (fun h7 => ?_)
  · replace hf := it h7 hf
    refine j_aload_n dX5_covers_16 0 rfl ?_
    refine j_aload_n dX5_covers_17 0 rfl ?_
    refine m_geta mf_72 rfl dX5_covers_18 ?_
    refine j_iload_n dX5_covers_21 1 rfl ?_
    obtain ⟨x2, hx2, hf⟩ := ob hf
    refine m_iald mr_72 hx2 dX5_covers_22 ?_
    refine j_iload_n dX5_covers_23 1 rfl ?_
    refine j_iload_n dX5_covers_24 2 rfl ?_
    obtain ⟨u3, hu3, hf⟩ := ob hf
    refine j_cVv [pI x2, pI v1, pI v2] [] kT_v (bM_mv G) (c5_takeDigits x2 v1 v2 u hu3) wv5_takeDigits dv5_takeDigits rfl ⟨(Nat.le_of_ble_eq_true rfl), (Nat.le_of_ble_eq_true rfl)⟩ (m_recv u) rfl (Nat.le_of_ble_eq_true rfl) dX5_covers_25 ⟨Nat.le_refl 0, Nat.le_refl 0⟩ ?_
    refine j_aload_n dX5_covers_28 0 rfl ?_
    refine j_aload_n dX5_covers_29 0 rfl ?_
    refine m_geta mf_72 rfl dX5_covers_30 ?_
    refine j_iload_n dX5_covers_33 1 rfl ?_
    obtain ⟨x4, hx4, hf⟩ := ob hf
    refine m_iald mr_72 hx4 dX5_covers_34 ?_
    obtain ⟨q5, hq5, hf⟩ := ob hf
    refine j_cVr [pI x4] [] kT_v (bM_mv G) (c5_settled x4 u3 hq5) wv5_settled dv5_settled rfl ⟨(Nat.le_of_ble_eq_true rfl), (Nat.le_of_ble_eq_true rfl)⟩ (m_recv u3) rfl (Nat.le_of_ble_eq_true rfl) dX5_covers_35 ⟨Nat.le_refl 0, Nat.le_refl 0⟩ ?_
    replace hf := Option.some.inj hf
    subst hf
    exact j_ireturn (bM_mv G) ⟨Nat.le_refl 0, Nat.le_refl 0⟩ rfl dX5_covers_38
  · replace hf := ie h7 hf
    refine j_aload_n dX5_covers_9 0 rfl ?_
    refine j_iload_n dX5_covers_10 1 rfl ?_
    refine j_iload_n dX5_covers_11 2 rfl ?_
    obtain ⟨x6, hx6, hf⟩ := ob hf
    refine j_cVr [pI v1, pI v2] [] kT_v (bM_mv G) (c5_noEvent v1 v2 u hx6) wv5_noEvent dv5_noEvent rfl ⟨(Nat.le_of_ble_eq_true rfl), (Nat.le_of_ble_eq_true rfl)⟩ (m_recv u) rfl (Nat.le_of_ble_eq_true rfl) dX5_covers_12 ⟨Nat.le_refl 0, Nat.le_refl 0⟩ ?_
    replace hf := Option.some.inj hf
    subst hf
    exact j_ireturn (bM_mv G) ⟨Nat.le_refl 0, Nat.le_refl 0⟩ rfl dX5_covers_15
theorem c5_bits_l4 {G : MG} {l : Launch} {a : List PV} {r : Int} {Kf : Int → Option (Int)} (v0 : Int) (u : Mu) (hK0 : ∀ q : Int, Kf q = some r → J5 G l D5_bits a (some (pI r)) u u 24 [(1, pI q)] []) : ∀ (n : Nat) (v1 : Int) (v2 : Int), ((m5_bits_l4 v0 n v1 v2).bind Kf = some r) → J5 G l D5_bits a (some (pI r)) u u 4 [(0, pI v0), (1, pI v1), (2, pI v2)] [] := by
  intro n
  induction n with
  | zero => intro v1 v2 hf; exact onb hf
  | succ n ih =>
    intro v1 v2 hf
    unfold m5_bits_l4 at hf
    refine j_iload_n dX5_bits_4 2 rfl ?_
    refine j_bipush dX5_bits_5 (by decide) ?_
    refine j_icmp_ge (w32 v2) 8 rfl rfl 24 dX5_bits_7 (by decide) (fun h1 => ?_) (fun h1 => ?_)
    · replace hf := itb h1 hf
      exact j_sub [1] _ rfl (hK0 v1 hf)
    · replace hf := ieb h1 hf
      refine j_iload_n dX5_bits_10 1 rfl ?_
      refine j_iload_n dX5_bits_11 0 rfl ?_
      refine j_iload_n dX5_bits_12 2 rfl ?_
      refine j_ishr dX5_bits_13 ?_
      refine j_iconst dX5_bits_14 ?_
      refine j_iand dX5_bits_15 ?_
      refine j_iadd dX5_bits_16 ?_
      refine j_istore_n dX5_bits_17 [(1, pI (v1 + (and32 (shr32 v0 v2) 1))), (0, pI v0), (2, pI v2)] (Nat.le_of_ble_eq_true rfl) rfl ?_
      refine j_iinc dX5_bits_18 2 rfl [(2, pI (v2 + 1)), (1, pI (v1 + (and32 (shr32 v0 v2) 1))), (0, pI v0)] (Nat.le_of_ble_eq_true rfl) rfl ?_
      refine j_goto 4 dX5_bits_21 (by decide) ?_
      exact j_sub [2, 1, 0] _ rfl (ih (v1 + (and32 (shr32 v0 v2) 1)) (v2 + 1) hf)
theorem c5_bits {G : MG} {l : Launch} {r : Int} (v0 : Int) (u : Mu) (hf : m5_bits v0 = some r) : JM kT (bM G) (aM G) l yX5_bits D5_bits [pI v0] u (some (pI r)) u 0 0 := by
  refine j_met (lv0 := [(0, pI v0)]) ⟨pl_X5, rfl, rfl, (Nat.le_of_ble_eq_true rfl), rfl⟩ ?_
  unfold m5_bits at hf
  refine j_iconst dX5_bits_0 ?_
  refine j_istore_n dX5_bits_1 [(1, pI 0), (0, pI v0)] (Nat.le_of_ble_eq_true rfl) rfl ?_
  refine j_iconst dX5_bits_2 ?_
  refine j_istore_n dX5_bits_3 [(2, pI 0), (1, pI 0), (0, pI v0)] (Nat.le_of_ble_eq_true rfl) rfl ?_
  refine j_sub [2, 1, 0] _ rfl (c5_bits_l4 v0 u ?_ NN 0 0 hf)
  · intro q1 hf
    refine j_iload_n dX5_bits_24 0 rfl ?_
    replace hf := Option.some.inj hf
    subst hf
    exact j_ireturn (bM_mv G) ⟨Nat.le_refl 0, Nat.le_refl 0⟩ rfl dX5_bits_25
theorem c5_isBefore {G : MG} {l : Launch} {r : Int} (v0 : Int) (v1 : Int) (u : Mu) (hf : m5_isBefore v0 v1 = some r) : JM kT (bM G) (aM G) l yX5_isBefore D5_isBefore [pI v0, pI v1] u (some (pI r)) u 0 0 := by
  refine j_met (lv0 := [(0, pI v0), (1, pI v1)]) ⟨pl_X5, rfl, rfl, (Nat.le_of_ble_eq_true rfl), rfl⟩ ?_
  unfold m5_isBefore at hf
  refine j_iload_n dX5_isBefore_0 0 rfl ?_
  obtain ⟨x1, hx1, hf⟩ := ob hf
  refine j_cSr [pI v0] [] kT_v (bM_mv G) (c5_bits v0 u hx1) wv5_bits dv5_bits rfl ⟨(Nat.le_of_ble_eq_true rfl), (Nat.le_of_ble_eq_true rfl)⟩ rfl (Nat.le_of_ble_eq_true rfl) dX5_isBefore_1 ⟨Nat.le_refl 0, Nat.le_refl 0⟩ ?_
  refine j_iload_n dX5_isBefore_4 1 rfl ?_
  obtain ⟨x2, hx2, hf⟩ := ob hf
  refine j_cSr [pI v1] [pI x1] kT_v (bM_mv G) (c5_bits v1 u hx2) wv5_bits dv5_bits rfl ⟨(Nat.le_of_ble_eq_true rfl), (Nat.le_of_ble_eq_true rfl)⟩ rfl (Nat.le_of_ble_eq_true rfl) dX5_isBefore_5 ⟨Nat.le_refl 0, Nat.le_refl 0⟩ ?_
  refine j_icmp_eq (w32 x1) (w32 x2) rfl rfl 28 dX5_isBefore_8 (by decide) (fun h7 => ?_) (fun h7 => ?_)
  · replace hf := it h7 hf
    refine j_iload_n dX5_isBefore_28 0 rfl ?_
    refine j_iload_n dX5_isBefore_29 1 rfl ?_
    refine j_ixor dX5_isBefore_30 ?_
    refine j_istore_n dX5_isBefore_31 [(2, pI (xor32 v0 v1)), (0, pI v0), (1, pI v1)] (Nat.le_of_ble_eq_true rfl) rfl ?_
    refine j_iload_n dX5_isBefore_32 1 rfl ?_
    refine j_iload_n dX5_isBefore_33 0 rfl ?_
    refine j_iand dX5_isBefore_34 ?_
    refine j_iload_n dX5_isBefore_35 0 rfl ?_
    refine j_ineg dX5_isBefore_36 ?_
    refine j_iand dX5_isBefore_37 ?_
    refine j_if_eq (w32 (and32 (and32 v0 (xor32 v0 v1)) (-(xor32 v0 v1)))) rfl 45 dX5_isBefore_38 (by decide) (fun h3 => ?_) (fun h3 => ?_)
    · replace hf := it h3 hf
      refine j_iconst dX5_isBefore_45 ?_
      replace hf := Option.some.inj hf
      subst hf
      exact j_zreturn (x := 0) (bM_mv G) ⟨Nat.le_refl 0, Nat.le_refl 0⟩ (ty := .boolean) rfl (nar_z (Or.inl rfl)) dX5_isBefore_46
    · replace hf := ie h3 hf
      refine j_iconst dX5_isBefore_41 ?_
      refine j_goto 46 dX5_isBefore_42 (by decide) ?_
      replace hf := Option.some.inj hf
      subst hf
      exact j_zreturn (x := 1) (bM_mv G) ⟨Nat.le_refl 0, Nat.le_refl 0⟩ (ty := .boolean) rfl (nar_z (Or.inr rfl)) dX5_isBefore_46
  · replace hf := ie h7 hf
    refine j_iload_n dX5_isBefore_11 0 rfl ?_
    obtain ⟨x4, hx4, hf⟩ := ob hf
    refine j_cSr [pI v0] [] kT_v (bM_mv G) (c5_bits v0 u hx4) wv5_bits dv5_bits rfl ⟨(Nat.le_of_ble_eq_true rfl), (Nat.le_of_ble_eq_true rfl)⟩ rfl (Nat.le_of_ble_eq_true rfl) dX5_isBefore_12 ⟨Nat.le_refl 0, Nat.le_refl 0⟩ ?_
    refine j_iload_n dX5_isBefore_15 1 rfl ?_
    obtain ⟨x5, hx5, hf⟩ := ob hf
    refine j_cSr [pI v1] [pI x4] kT_v (bM_mv G) (c5_bits v1 u hx5) wv5_bits dv5_bits rfl ⟨(Nat.le_of_ble_eq_true rfl), (Nat.le_of_ble_eq_true rfl)⟩ rfl (Nat.le_of_ble_eq_true rfl) dX5_isBefore_16 ⟨Nat.le_refl 0, Nat.le_refl 0⟩ ?_
    refine j_icmp_ge (w32 x4) (w32 x5) rfl rfl 26 dX5_isBefore_19 (by decide) (fun h6 => ?_) (fun h6 => ?_)
    · replace hf := it h6 hf
      refine j_iconst dX5_isBefore_26 ?_
      replace hf := Option.some.inj hf
      subst hf
      exact j_zreturn (x := 0) (bM_mv G) ⟨Nat.le_refl 0, Nat.le_refl 0⟩ (ty := .boolean) rfl (nar_z (Or.inl rfl)) dX5_isBefore_27
    · replace hf := ie h6 hf
      refine j_iconst dX5_isBefore_22 ?_
      refine j_goto 27 dX5_isBefore_23 (by decide) ?_
      replace hf := Option.some.inj hf
      subst hf
      exact j_zreturn (x := 1) (bM_mv G) ⟨Nat.le_refl 0, Nat.le_refl 0⟩ (ty := .boolean) rfl (nar_z (Or.inr rfl)) dX5_isBefore_27
theorem c5_settlesAll_l2 {G : MG} {l : Launch} {a : List PV} {r : Int × Mu} {Kf : Mu → Option (Int × Mu)} (v1 : Int) (v2 : Int) (hK0 : ∀ q : Mu, Kf q = some r → J5 G l D5_settlesAll a (some (pI r.1)) r.2 q 22 [(0, pR (some G.1)), (1, pI v1), (2, pI v2)] []) : ∀ (n : Nat) (v3 : Int) (u : Mu), ((m5_settlesAll_l2 v1 v2 n v3 u).bind Kf = some r) → J5 G l D5_settlesAll a (some (pI r.1)) r.2 u 2 [(0, pR (some G.1)), (1, pI v1), (2, pI v2), (3, pI v3)] [] := by
  intro n
  induction n with
  | zero => intro v3 u hf; exact onb hf
  | succ n ih =>
    intro v3 u hf
    unfold m5_settlesAll_l2 at hf
    refine j_iload_n dX5_settlesAll_2 3 rfl ?_
    refine j_sipush dX5_settlesAll_3 (by decide) ?_
    refine j_icmp_ge (w32 v3) 2000 rfl rfl 22 dX5_settlesAll_6 (by decide) (fun h2 => ?_) (fun h2 => ?_)
    · replace hf := itb h2 hf
      exact j_sub [0, 1, 2] _ rfl (hK0 u hf)
    · replace hf := ieb h2 hf
      refine j_aload_n dX5_settlesAll_9 0 rfl ?_
      refine m_geta mf_79 rfl dX5_settlesAll_10 ?_
      refine j_iload_n dX5_settlesAll_13 3 rfl ?_
      refine j_iconst dX5_settlesAll_14 ?_
      obtain ⟨u1, hu1, hf⟩ := obb hf
      refine m_iast mr_79 hu1 dX5_settlesAll_15 ?_
      refine j_iinc dX5_settlesAll_16 3 rfl [(3, pI (v3 + 1)), (0, pR (some G.1)), (1, pI v1), (2, pI v2)] (Nat.le_of_ble_eq_true rfl) rfl ?_
      refine j_goto 2 dX5_settlesAll_19 (by decide) ?_
      exact j_sub [1, 2, 3, 0] _ rfl (ih (v3 + 1) u1 hf)
theorem c5_settlesAll_l39 {G : MG} {l : Launch} {a : List PV} {r : Int × Mu} {Kf : Int → Option (Int × Mu)} (v1 : Int) (v2 : Int) (u : Mu) (hK0 : ∀ q : Int, Kf q = some r → J5 G l D5_settlesAll a (some (pI r.1)) r.2 u 91 [(0, pR (some G.1)), (1, pI v1), (2, pI v2), (4, pI q)] []) : ∀ (n : Nat) (v4 : Int) (v5 : Int), ((m5_settlesAll_l39 v1 v2 u n v4 v5).bind Kf = some r) → J5 G l D5_settlesAll a (some (pI r.1)) r.2 u 39 [(0, pR (some G.1)), (1, pI v1), (2, pI v2), (4, pI v4), (5, pI v5)] [] := by
  intro n
  induction n with
  | zero => intro v4 v5 hf; exact onb hf
  | succ n ih =>
    intro v4 v5 hf
    unfold m5_settlesAll_l39 at hf
    refine j_iload dX5_settlesAll_39 4 rfl ?_
    refine j_aload_n dX5_settlesAll_41 0 rfl ?_
    refine m_geta mf_12 rfl dX5_settlesAll_42 ?_
    refine j_iload_n dX5_settlesAll_45 1 rfl ?_
    obtain ⟨x1, hx1, hf⟩ := obb hf
    refine m_iald mr_12 hx1 dX5_settlesAll_46 ?_
    refine j_icmp_ge (w32 v5) (w32 x1) rfl rfl 91 dX5_settlesAll_47 (by decide) (fun h5 => ?_) (fun h5 => ?_)
    · replace hf := itb h5 hf
      exact j_sub [0, 1, 2, 3] _ rfl (hK0 v4 hf)
    · replace hf := ieb h5 hf
      refine j_iload_n dX5_settlesAll_50 2 rfl ?_
      refine j_iload dX5_settlesAll_51 4 rfl ?_
      refine j_ishr dX5_settlesAll_53 ?_
      refine j_iconst dX5_settlesAll_54 ?_
      refine j_iand dX5_settlesAll_55 ?_
      refine j_iconst dX5_settlesAll_56 ?_
      refine j_icmp_ne (w32 (and32 (shr32 v2 v5) 1)) 1 rfl rfl 85 dX5_settlesAll_57 (by decide) (fun h4 => ?_) (fun h4 => ?_)
      · replace hf := ieb h4 hf
        refine j_iinc dX5_settlesAll_85 4 rfl [(5, pI (v5 + 1)), (0, pR (some G.1)), (1, pI v1), (2, pI v2), (4, pI v4)] (Nat.le_of_ble_eq_true rfl) rfl ?_
        refine j_goto 39 dX5_settlesAll_88 (by decide) ?_
        exact j_sub [1, 2, 3, 4, 0] _ rfl (ih v4 (v5 + 1) hf)
      · replace hf := itb h4 hf
        refine j_iload dX5_settlesAll_60 3 rfl ?_
        refine j_aload_n dX5_settlesAll_62 0 rfl ?_
        refine m_geta mf_39 rfl dX5_settlesAll_63 ?_
        refine j_bipush dX5_settlesAll_66 (by decide) ?_
        refine j_iload_n dX5_settlesAll_68 1 rfl ?_
        refine j_imul dX5_settlesAll_69 ?_
        refine j_iload dX5_settlesAll_70 4 rfl ?_
        refine j_iadd dX5_settlesAll_72 ?_
        obtain ⟨x2, hx2, hf⟩ := obb hf
        refine m_iald mr_39 hx2 dX5_settlesAll_73 ?_
        refine j_imul dX5_settlesAll_74 ?_
        refine j_aload_n dX5_settlesAll_75 0 rfl ?_
        refine m_geta mf_77 rfl dX5_settlesAll_76 ?_
        refine j_iload dX5_settlesAll_79 4 rfl ?_
        obtain ⟨x3, hx3, hf⟩ := obb hf
        refine m_iald mr_77 hx3 dX5_settlesAll_81 ?_
        refine j_iadd dX5_settlesAll_82 ?_
        refine j_istore dX5_settlesAll_83 [(4, pI ((v4 * x2) + x3)), (0, pR (some G.1)), (1, pI v1), (2, pI v2), (5, pI v5)] (Nat.le_of_ble_eq_true rfl) rfl ?_
        refine j_iinc dX5_settlesAll_85 4 rfl [(5, pI (v5 + 1)), (4, pI ((v4 * x2) + x3)), (0, pR (some G.1)), (1, pI v1), (2, pI v2)] (Nat.le_of_ble_eq_true rfl) rfl ?_
        refine j_goto 39 dX5_settlesAll_88 (by decide) ?_
        exact j_sub [2, 3, 4, 1, 0] _ rfl (ih ((v4 * x2) + x3) (v5 + 1) hf)
theorem c5_settlesAll_b130 {G : MG} {l : Launch} {a : List PV} {r : Int × Mu} {Kf : (Mu) ⊕ (Mu) → Option (Int × Mu)} {v1 : Int} {v2 : Int} (kh : Int → Mu → Option ((Mu) ⊕ (Mu))) (hkh : ∀ (z3 : Int) (zu : Mu), ((kh z3 zu).bind Kf = some r) → J5 G l D5_settlesAll a (some (pI r.1)) r.2 zu 29 [(0, pR (some G.1)), (1, pI v1), (2, pI v2), (3, pI z3)] []) (hK0 : ∀ q : Mu, Kf (.inl q) = some r → J5 G l D5_settlesAll a (some (pI r.1)) r.2 q 128 [] []) (hK1 : ∀ q : Mu, Kf (.inr q) = some r → J5 G l D5_settlesAll a (some (pI r.1)) r.2 q 148 [] []) (v4 : Int) (v5 : Int) (u : Mu) (hf : (m5_settlesAll_b130 kh v1 v2 v4 v5 u).bind Kf = some r) : J5 G l D5_settlesAll a (some (pI r.1)) r.2 u 130 [(0, pR (some G.1)), (1, pI v1), (2, pI v2), (4, pI v4), (5, pI v5)] [] := by
  unfold m5_settlesAll_b130 at hf
  refine j_aload_n dX5_settlesAll_130 0 rfl ?_
  refine m_geta mf_79 rfl dX5_settlesAll_131 ?_
  refine j_iload dX5_settlesAll_134 3 rfl ?_
  refine j_iload dX5_settlesAll_136 4 rfl ?_
  obtain ⟨u1, hu1, hf⟩ := obb hf
  refine m_iast mr_79 hu1 dX5_settlesAll_138 ?_
  refine j_aload_n dX5_settlesAll_139 0 rfl ?_
  refine j_iload_n dX5_settlesAll_140 1 rfl ?_
  obtain ⟨q2, hq2, hf⟩ := obb hf
  refine j_cVr [pI v1] [] kT_v (bM_mv G) (c5_nextWay v1 u1 hq2) wv5_nextWay dv5_nextWay rfl ⟨(Nat.le_of_ble_eq_true rfl), (Nat.le_of_ble_eq_true rfl)⟩ (m_recv u1) rfl (Nat.le_of_ble_eq_true rfl) dX5_settlesAll_141 ⟨Nat.le_refl 0, Nat.le_refl 0⟩ ?_
  refine j_istore_n dX5_settlesAll_144 [(3, pI q2.1), (0, pR (some G.1)), (1, pI v1), (2, pI v2), (4, pI v4), (5, pI v5)] (Nat.le_of_ble_eq_true rfl) rfl ?_
  refine j_goto 29 dX5_settlesAll_145 (by decide) ?_
  exact j_sub [1, 2, 3, 0] _ rfl (hkh q2.1 q2.2 hf)
theorem c5_settlesAll_b104 {G : MG} {l : Launch} {a : List PV} {r : Int × Mu} {Kf : (Mu) ⊕ (Mu) → Option (Int × Mu)} {v1 : Int} {v2 : Int} (kh : Int → Mu → Option ((Mu) ⊕ (Mu))) (hkh : ∀ (z3 : Int) (zu : Mu), ((kh z3 zu).bind Kf = some r) → J5 G l D5_settlesAll a (some (pI r.1)) r.2 zu 29 [(0, pR (some G.1)), (1, pI v1), (2, pI v2), (3, pI z3)] []) (hK0 : ∀ q : Mu, Kf (.inl q) = some r → J5 G l D5_settlesAll a (some (pI r.1)) r.2 q 128 [] []) (hK1 : ∀ q : Mu, Kf (.inr q) = some r → J5 G l D5_settlesAll a (some (pI r.1)) r.2 q 148 [] []) (v4 : Int) (s0 : Int) (u : Mu) (hf : (m5_settlesAll_b104 kh v1 v2 v4 s0 u).bind Kf = some r) : J5 G l D5_settlesAll a (some (pI r.1)) r.2 u 104 [(0, pR (some G.1)), (1, pI v1), (2, pI v2), (4, pI v4)] [pI s0] := by
  unfold m5_settlesAll_b104 at hf
  refine j_istore dX5_settlesAll_104 [(5, pI s0), (0, pR (some G.1)), (1, pI v1), (2, pI v2), (4, pI v4)] (Nat.le_of_ble_eq_true rfl) rfl ?_
  refine j_aload_n dX5_settlesAll_106 1 rfl ?_
  refine m_geta mf_79 rfl dX5_settlesAll_107 ?_
  refine j_iload dX5_settlesAll_110 4 rfl ?_
  obtain ⟨x1, hx1, hf⟩ := obb hf
  refine m_iald mr_79 hx1 dX5_settlesAll_112 ?_
  refine j_if_lt (w32 x1) rfl 130 dX5_settlesAll_113 (by decide) (fun h4 => ?_) (fun h4 => ?_)
  · replace hf := itb h4 hf
    exact j_sub [1, 2, 3, 4, 0] _ rfl (c5_settlesAll_b130 (kh) hkh hK0 hK1 v4 s0 u hf)
  · replace hf := ieb h4 hf
    refine j_aload_n dX5_settlesAll_116 1 rfl ?_
    refine m_geta mf_79 rfl dX5_settlesAll_117 ?_
    refine j_iload dX5_settlesAll_120 4 rfl ?_
    obtain ⟨x2, hx2, hf⟩ := obb hf
    refine m_iald mr_79 hx2 dX5_settlesAll_122 ?_
    refine j_iload dX5_settlesAll_123 0 rfl ?_
    refine j_icmp_eq (w32 x2) (w32 s0) rfl rfl 130 dX5_settlesAll_125 (by decide) (fun h3 => ?_) (fun h3 => ?_)
    · replace hf := itb h3 hf
      exact j_sub [1, 2, 3, 4, 0] _ rfl (c5_settlesAll_b130 (kh) hkh hK0 hK1 v4 s0 u hf)
    · replace hf := ieb h3 hf
      exact j_sub [] _ rfl (hK0 u hf)
theorem c5_settlesAll_l29 {G : MG} {l : Launch} {a : List PV} {r : Int × Mu} {Kf : (Mu) ⊕ (Mu) → Option (Int × Mu)} (v1 : Int) (v2 : Int) (hK0 : ∀ q : Mu, Kf (.inl q) = some r → J5 G l D5_settlesAll a (some (pI r.1)) r.2 q 128 [] []) (hK1 : ∀ q : Mu, Kf (.inr q) = some r → J5 G l D5_settlesAll a (some (pI r.1)) r.2 q 148 [] []) : ∀ (n : Nat) (v3 : Int) (u : Mu), ((m5_settlesAll_l29 v1 v2 n v3 u).bind Kf = some r) → J5 G l D5_settlesAll a (some (pI r.1)) r.2 u 29 [(0, pR (some G.1)), (1, pI v1), (2, pI v2), (3, pI v3)] [] := by
  intro n
  induction n with
  | zero => intro v3 u hf; exact onb hf
  | succ n ih =>
    intro v3 u hf
    unfold m5_settlesAll_l29 at hf
    refine j_iload_n dX5_settlesAll_29 3 rfl ?_
    refine j_if_eq (w32 v3) rfl 148 dX5_settlesAll_30 (by decide) (fun h4 => ?_) (fun h4 => ?_)
    · replace hf := itb h4 hf
      exact j_sub [] _ rfl (hK1 u hf)
    · replace hf := ieb h4 hf
      refine j_iconst dX5_settlesAll_33 ?_
      refine j_istore dX5_settlesAll_34 [(4, pI 0), (0, pR (some G.1)), (1, pI v1), (2, pI v2), (3, pI v3)] (Nat.le_of_ble_eq_true rfl) rfl ?_
      refine j_iconst dX5_settlesAll_36 ?_
      refine j_istore dX5_settlesAll_37 [(5, pI 0), (4, pI 0), (0, pR (some G.1)), (1, pI v1), (2, pI v2), (3, pI v3)] (Nat.le_of_ble_eq_true rfl) rfl ?_
      replace hf := oba hf
      refine j_sub [2, 3, 4, 1, 0] _ rfl (c5_settlesAll_l39 v1 v2 u ?_ NN 0 0 hf)
      · intro q1 hf
        refine j_aload_n dX5_settlesAll_91 0 rfl ?_
        refine j_iload_n dX5_settlesAll_92 1 rfl ?_
        obtain ⟨x2, hx2, hf⟩ := obb hf
        refine j_cVr [pI v1] [] kT_v (bM_mv G) (c5_wayAnswer v1 u hx2) wv5_wayAnswer dv5_wayAnswer rfl ⟨(Nat.le_of_ble_eq_true rfl), (Nat.le_of_ble_eq_true rfl)⟩ (m_recv u) rfl (Nat.le_of_ble_eq_true rfl) dX5_settlesAll_93 ⟨Nat.le_refl 0, Nat.le_refl 0⟩ ?_
        refine j_if_eq (w32 x2) rfl 103 dX5_settlesAll_96 (by decide) (fun h3 => ?_) (fun h3 => ?_)
        · replace hf := itb h3 hf
          refine j_iconst dX5_settlesAll_103 ?_
          exact j_sub [0, 1, 2, 3] _ rfl (c5_settlesAll_b104 (m5_settlesAll_l29 v1 v2 n) ih hK0 hK1 q1 0 u hf)
        · replace hf := ieb h3 hf
          refine j_iconst dX5_settlesAll_99 ?_
          refine j_goto 104 dX5_settlesAll_100 (by decide) ?_
          exact j_sub [0, 1, 2, 3] _ rfl (c5_settlesAll_b104 (m5_settlesAll_l29 v1 v2 n) ih hK0 hK1 q1 1 u hf)
theorem c5_settlesAll {G : MG} {l : Launch} {r : Int × Mu} (v1 : Int) (v2 : Int) (u : Mu) (hf : m5_settlesAll v1 v2 u = some r) : JM kT (bM G) (aM G) l yX5_settlesAll D5_settlesAll [pR (some G.1), pI v1, pI v2] u (some (pI r.1)) r.2 0 0 := by
  refine j_met (lv0 := [(0, pR (some G.1)), (1, pI v1), (2, pI v2)]) ⟨pl_X5, rfl, rfl, (Nat.le_of_ble_eq_true rfl), rfl⟩ ?_
  unfold m5_settlesAll at hf
  refine j_iconst dX5_settlesAll_0 ?_
  refine j_istore_n dX5_settlesAll_1 [(3, pI 0), (0, pR (some G.1)), (1, pI v1), (2, pI v2)] (Nat.le_of_ble_eq_true rfl) rfl ?_
  refine j_sub [1, 2, 3, 0] _ rfl (c5_settlesAll_l2 v1 v2 ?_ NN 0 u hf)
  · intro q1 hf
    refine j_aload_n dX5_settlesAll_22 0 rfl ?_
    refine j_iload_n dX5_settlesAll_23 1 rfl ?_
    obtain ⟨u2, hu2, hf⟩ := ob hf
    refine j_cVv [pI v1] [] kT_v (bM_mv G) (c5_firstWay v1 q1 hu2) wv5_firstWay dv5_firstWay rfl ⟨(Nat.le_of_ble_eq_true rfl), (Nat.le_of_ble_eq_true rfl)⟩ (m_recv q1) rfl (Nat.le_of_ble_eq_true rfl) dX5_settlesAll_24 ⟨Nat.le_refl 0, Nat.le_refl 0⟩ ?_
    refine j_iconst dX5_settlesAll_27 ?_
    refine j_istore_n dX5_settlesAll_28 [(3, pI 1), (0, pR (some G.1)), (1, pI v1), (2, pI v2)] (Nat.le_of_ble_eq_true rfl) rfl ?_
    refine j_sub [1, 2, 3, 0] _ rfl (c5_settlesAll_l29 v1 v2 ?_ ?_ NN 1 u2 hf)
    · intro q3 hf
      simp only [Sum.elim_inl, Sum.elim_inr] at hf
      refine j_iconst dX5_settlesAll_128 ?_
      replace hf := Option.some.inj hf
      subst hf
      exact j_zreturn (x := 0) (bM_mv G) ⟨Nat.le_refl 0, Nat.le_refl 0⟩ (ty := .boolean) rfl (nar_z (Or.inl rfl)) dX5_settlesAll_129
    · intro q4 hf
      simp only [Sum.elim_inl, Sum.elim_inr] at hf
      refine j_iconst dX5_settlesAll_148 ?_
      replace hf := Option.some.inj hf
      subst hf
      exact j_zreturn (x := 1) (bM_mv G) ⟨Nat.le_refl 0, Nat.le_refl 0⟩ (ty := .boolean) rfl (nar_z (Or.inr rfl)) dX5_settlesAll_149
theorem c5_settles_b67 {G : MG} {l : Launch} {a : List PV} {r : Int × Mu} {Kf : Int → Option (Int × Mu)} {v3 : Int} {u : Mu} (kh : Int → Int → Option (Int)) (hkh : ∀ (z4 : Int) (z5 : Int), ((kh z4 z5).bind Kf = some r) → J5 G l D5_settles a (some (pI r.1)) r.2 u 36 [(0, pR (some G.1)), (3, pI v3), (4, pI z4), (5, pI z5)] []) (hK0 : ∀ q : Int, Kf q = some r → J5 G l D5_settles a (some (pI r.1)) r.2 u 76 [(0, pR (some G.1)), (3, pI v3), (4, pI q)] []) (v5 : Int) (s0 : Int) (s1 : Int) (hf : (m5_settles_b67 kh v3 v5 s0 s1 u).bind Kf = some r) : J5 G l D5_settles a (some (pI r.1)) r.2 u 67 [(0, pR (some G.1)), (3, pI v3), (5, pI v5)] [pI s1, pI s0] := by
  unfold m5_settles_b67 at hf
  refine j_ior dX5_settles_67 ?_
  refine j_istore dX5_settles_68 [(4, pI (or32 s0 s1)), (0, pR (some G.1)), (3, pI v3), (5, pI v5)] (Nat.le_of_ble_eq_true rfl) rfl ?_
  refine j_iinc dX5_settles_70 3 rfl [(5, pI (v5 + 1)), (4, pI (or32 s0 s1)), (0, pR (some G.1)), (3, pI v3)] (Nat.le_of_ble_eq_true rfl) rfl ?_
  refine j_goto 36 dX5_settles_73 (by decide) ?_
  exact j_sub [2, 3, 1, 0] _ rfl (hkh (or32 s0 s1) (v5 + 1) hf)
theorem c5_settles_l36 {G : MG} {l : Launch} {a : List PV} {r : Int × Mu} {Kf : Int → Option (Int × Mu)} (v3 : Int) (u : Mu) (hK0 : ∀ q : Int, Kf q = some r → J5 G l D5_settles a (some (pI r.1)) r.2 u 76 [(0, pR (some G.1)), (3, pI v3), (4, pI q)] []) : ∀ (n : Nat) (v4 : Int) (v5 : Int), ((m5_settles_l36 v3 u n v4 v5).bind Kf = some r) → J5 G l D5_settles a (some (pI r.1)) r.2 u 36 [(0, pR (some G.1)), (3, pI v3), (4, pI v4), (5, pI v5)] [] := by
  intro n
  induction n with
  | zero => intro v4 v5 hf; exact onb hf
  | succ n ih =>
    intro v4 v5 hf
    unfold m5_settles_l36 at hf
    refine j_iload dX5_settles_36 3 rfl ?_
    refine j_aload_n dX5_settles_38 0 rfl ?_
    refine m_geta mf_12 rfl dX5_settles_39 ?_
    refine j_iload_n dX5_settles_42 1 rfl ?_
    obtain ⟨x1, hx1, hf⟩ := obb hf
    refine m_iald mr_12 hx1 dX5_settles_43 ?_
    refine j_icmp_ge (w32 v5) (w32 x1) rfl rfl 76 dX5_settles_44 (by decide) (fun h4 => ?_) (fun h4 => ?_)
    · replace hf := itb h4 hf
      exact j_sub [0, 1, 2] _ rfl (hK0 v4 hf)
    · replace hf := ieb h4 hf
      refine j_iload dX5_settles_47 2 rfl ?_
      refine j_aload_n dX5_settles_49 0 rfl ?_
      refine m_geta mf_76 rfl dX5_settles_50 ?_
      refine j_iload dX5_settles_53 3 rfl ?_
      obtain ⟨x2, hx2, hf⟩ := obb hf
      refine m_iald mr_76 hx2 dX5_settles_55 ?_
      refine j_if_ge (w32 x2) rfl 66 dX5_settles_56 (by decide) (fun h3 => ?_) (fun h3 => ?_)
      · replace hf := itb h3 hf
        refine j_iconst dX5_settles_66 ?_
        exact j_sub [0, 1, 3] _ rfl (c5_settles_b67 (m5_settles_l36 v3 u n) ih hK0 v5 v4 0 hf)
      · replace hf := ieb h3 hf
        refine j_iconst dX5_settles_59 ?_
        refine j_iload dX5_settles_60 3 rfl ?_
        refine j_ishl dX5_settles_62 ?_
        refine j_goto 67 dX5_settles_63 (by decide) ?_
        exact j_sub [0, 1, 3] _ rfl (c5_settles_b67 (m5_settles_l36 v3 u n) ih hK0 v5 v4 (shl32 1 v5) hf)
theorem c5_settles_l83 {G : MG} {l : Launch} {a : List PV} {r : Int × Mu} {Kf : Int × Mu → Option (Int × Mu)} (v3 : Int) (v4 : Int) (hK0 : ∀ q : Int × Mu, Kf q = some r → J5 G l D5_settles a (some (pI r.1)) r.2 q.2 131 [(5, pI q.1)] []) : ∀ (n : Nat) (v5 : Int) (v6 : Int) (u : Mu), ((m5_settles_l83 v3 v4 n v5 v6 u).bind Kf = some r) → J5 G l D5_settles a (some (pI r.1)) r.2 u 83 [(0, pR (some G.1)), (3, pI v3), (4, pI v4), (5, pI v5), (6, pI v6)] [] := by
  intro n
  induction n with
  | zero => intro v5 v6 u hf; exact onb hf
  | succ n ih =>
    intro v5 v6 u hf
    unfold m5_settles_l83 at hf
    refine j_iload dX5_settles_83 4 rfl ?_
    refine j_sipush dX5_settles_85 (by decide) ?_
    refine j_icmp_ge (w32 v6) 256 rfl rfl 131 dX5_settles_88 (by decide) (fun h6 => ?_) (fun h6 => ?_)
    · replace hf := itb h6 hf
      exact j_sub [3] _ rfl (hK0 (v5, u) hf)
    · replace hf := ieb h6 hf
      refine j_iload dX5_settles_91 4 rfl ?_
      refine j_iload dX5_settles_93 2 rfl ?_
      refine j_iconst dX5_settles_95 ?_
      refine j_ixor dX5_settles_96 ?_
      refine j_iand dX5_settles_97 ?_
      refine j_if_ne (w32 (and32 v6 (xor32 v4 (-1)))) rfl 125 dX5_settles_98 (by decide) (fun h5 => ?_) (fun h5 => ?_)
      · replace hf := ieb h5 hf
        refine j_iinc dX5_settles_125 4 rfl [(6, pI (v6 + 1)), (0, pR (some G.1)), (3, pI v3), (4, pI v4), (5, pI v5)] (Nat.le_of_ble_eq_true rfl) rfl ?_
        refine j_goto 83 dX5_settles_128 (by decide) ?_
        exact j_sub [1, 2, 3, 4, 0] _ rfl (ih v5 (v6 + 1) u hf)
      · replace hf := itb h5 hf
        refine j_iload dX5_settles_101 4 rfl ?_
        refine j_iload dX5_settles_103 3 rfl ?_
        obtain ⟨x1, hx1, hf⟩ := obb hf
        refine j_cSr [pI v6, pI v5] [] kT_v (bM_mv G) (c5_isBefore v6 v5 u hx1) wv5_isBefore dv5_isBefore rfl ⟨(Nat.le_of_ble_eq_true rfl), (Nat.le_of_ble_eq_true rfl)⟩ rfl (Nat.le_of_ble_eq_true rfl) dX5_settles_105 ⟨Nat.le_refl 0, Nat.le_refl 0⟩ ?_
        refine j_if_eq (w32 x1) rfl 125 dX5_settles_108 (by decide) (fun h4 => ?_) (fun h4 => ?_)
        · replace hf := itb h4 hf
          refine j_iinc dX5_settles_125 4 rfl [(6, pI (v6 + 1)), (0, pR (some G.1)), (3, pI v3), (4, pI v4), (5, pI v5)] (Nat.le_of_ble_eq_true rfl) rfl ?_
          refine j_goto 83 dX5_settles_128 (by decide) ?_
          exact j_sub [1, 2, 3, 4, 0] _ rfl (ih v5 (v6 + 1) u hf)
        · replace hf := ieb h4 hf
          refine j_aload_n dX5_settles_111 0 rfl ?_
          refine j_iload_n dX5_settles_112 1 rfl ?_
          refine j_iload dX5_settles_113 4 rfl ?_
          obtain ⟨q2, hq2, hf⟩ := obb hf
          refine j_cVr [pI v3, pI v6] [] kT_v (bM_mv G) (c5_settlesAll v3 v6 u hq2) wv5_settlesAll dv5_settlesAll rfl ⟨(Nat.le_of_ble_eq_true rfl), (Nat.le_of_ble_eq_true rfl)⟩ (m_recv u) rfl (Nat.le_of_ble_eq_true rfl) dX5_settles_115 ⟨Nat.le_refl 0, Nat.le_refl 0⟩ ?_
          refine j_if_eq (w32 q2.1) rfl 125 dX5_settles_118 (by decide) (fun h3 => ?_) (fun h3 => ?_)
          · replace hf := itb h3 hf
            refine j_iinc dX5_settles_125 4 rfl [(6, pI (v6 + 1)), (0, pR (some G.1)), (3, pI v3), (4, pI v4), (5, pI v5)] (Nat.le_of_ble_eq_true rfl) rfl ?_
            refine j_goto 83 dX5_settles_128 (by decide) ?_
            exact j_sub [1, 2, 3, 4, 0] _ rfl (ih v5 (v6 + 1) q2.2 hf)
          · replace hf := ieb h3 hf
            refine j_iload dX5_settles_121 4 rfl ?_
            refine j_istore dX5_settles_123 [(5, pI v6), (0, pR (some G.1)), (3, pI v3), (4, pI v4), (6, pI v6)] (Nat.le_of_ble_eq_true rfl) rfl ?_
            refine j_iinc dX5_settles_125 4 rfl [(6, pI (v6 + 1)), (5, pI v6), (0, pR (some G.1)), (3, pI v3), (4, pI v4)] (Nat.le_of_ble_eq_true rfl) rfl ?_
            refine j_goto 83 dX5_settles_128 (by decide) ?_
            exact j_sub [2, 3, 4, 1, 0] _ rfl (ih v6 (v6 + 1) q2.2 hf)
theorem c5_settles {G : MG} {l : Launch} {r : Int × Mu} (v1 : Int) (v2 : Int) (u : Mu) (hf : m5_settles v1 v2 u = some r) : JM kT (bM G) (aM G) l yX5_settles D5_settles [pR (some G.1), pI v1, pI v2] u (some (pI r.1)) r.2 0 0 := by
  refine j_met (lv0 := [(0, pR (some G.1)), (1, pI v1), (2, pI v2)]) ⟨pl_X5, rfl, rfl, (Nat.le_of_ble_eq_true rfl), rfl⟩ ?_
  unfold m5_settles at hf
  refine j_aload_n dX5_settles_0 0 rfl ?_
  refine j_iload_n dX5_settles_1 1 rfl ?_
  refine j_iload_n dX5_settles_2 2 rfl ?_
  obtain ⟨x1, hx1, hf⟩ := ob hf
  refine j_cVr [pI v1, pI v2] [] kT_v (bM_mv G) (c5_noEvent v1 v2 u hx1) wv5_noEvent dv5_noEvent rfl ⟨(Nat.le_of_ble_eq_true rfl), (Nat.le_of_ble_eq_true rfl)⟩ (m_recv u) rfl (Nat.le_of_ble_eq_true rfl) dX5_settles_3 ⟨Nat.le_refl 0, Nat.le_refl 0⟩ ?_
  refine j_if_ge (w32 x1) rfl 16 dX5_settles_6 (by decide) (fun h7 => ?_) (fun h7 => ?_)
  · replace hf := it h7 hf
    refine j_aload_n dX5_settles_16 0 rfl ?_
    refine m_geta mf_72 rfl dX5_settles_17 ?_
    refine j_iload_n dX5_settles_20 1 rfl ?_
    obtain ⟨x2, hx2, hf⟩ := ob hf
    refine m_iald mr_72 hx2 dX5_settles_21 ?_
    refine j_istore_n dX5_settles_22 [(3, pI x2), (0, pR (some G.1)), (1, pI v1), (2, pI v2)] (Nat.le_of_ble_eq_true rfl) rfl ?_
    refine j_aload_n dX5_settles_23 1 rfl ?_
    refine j_iload_n dX5_settles_24 0 rfl ?_
    refine j_iload_n dX5_settles_25 2 rfl ?_
    refine j_iload_n dX5_settles_26 3 rfl ?_
    obtain ⟨u3, hu3, hf⟩ := ob hf
    refine j_cVv [pI x2, pI v1, pI v2] [] kT_v (bM_mv G) (c5_takeDigits x2 v1 v2 u hu3) wv5_takeDigits dv5_takeDigits rfl ⟨(Nat.le_of_ble_eq_true rfl), (Nat.le_of_ble_eq_true rfl)⟩ (m_recv u) rfl (Nat.le_of_ble_eq_true rfl) dX5_settles_27 ⟨Nat.le_refl 0, Nat.le_refl 0⟩ ?_
    refine j_iconst dX5_settles_30 ?_
    refine j_istore dX5_settles_31 [(4, pI 0), (3, pI x2), (0, pR (some G.1)), (1, pI v1), (2, pI v2)] (Nat.le_of_ble_eq_true rfl) rfl ?_
    refine j_iconst dX5_settles_33 ?_
    refine j_istore dX5_settles_34 [(5, pI 0), (4, pI 0), (3, pI x2), (0, pR (some G.1)), (1, pI v1), (2, pI v2)] (Nat.le_of_ble_eq_true rfl) rfl ?_
    refine j_sub [3, 2, 1, 0] _ rfl (c5_settles_l36 x2 u3 ?_ NN 0 0 hf)
    · intro q4 hf
      refine j_iload dX5_settles_76 2 rfl ?_
      refine j_istore dX5_settles_78 [(5, pI q4), (0, pR (some G.1)), (3, pI x2), (4, pI q4)] (Nat.le_of_ble_eq_true rfl) rfl ?_
      refine j_iconst dX5_settles_80 ?_
      refine j_istore dX5_settles_81 [(6, pI 0), (5, pI q4), (0, pR (some G.1)), (3, pI x2), (4, pI q4)] (Nat.le_of_ble_eq_true rfl) rfl ?_
      refine j_sub [2, 3, 4, 1, 0] _ rfl (c5_settles_l83 x2 q4 ?_ NN q4 0 u3 hf)
      · intro q5 hf
        refine j_iload dX5_settles_131 0 rfl ?_
        replace hf := Option.some.inj hf
        subst hf
        exact j_ireturn (bM_mv G) ⟨Nat.le_refl 0, Nat.le_refl 0⟩ rfl dX5_settles_133
  · replace hf := ie h7 hf
    refine j_aload_n dX5_settles_9 0 rfl ?_
    refine j_iload_n dX5_settles_10 1 rfl ?_
    refine j_iload_n dX5_settles_11 2 rfl ?_
    obtain ⟨x6, hx6, hf⟩ := ob hf
    refine j_cVr [pI v1, pI v2] [] kT_v (bM_mv G) (c5_noEvent v1 v2 u hx6) wv5_noEvent dv5_noEvent rfl ⟨(Nat.le_of_ble_eq_true rfl), (Nat.le_of_ble_eq_true rfl)⟩ (m_recv u) rfl (Nat.le_of_ble_eq_true rfl) dX5_settles_12 ⟨Nat.le_refl 0, Nat.le_refl 0⟩ ?_
    replace hf := Option.some.inj hf
    subst hf
    exact j_ireturn (bM_mv G) ⟨Nat.le_refl 0, Nat.le_refl 0⟩ rfl dX5_settles_15

theorem c5_because_b93 {G : MG} {l : Launch} {a : List PV} {r : Int × Mu} {Kf : Int × Mu → Option (Int × Mu)} {v3 : Int} (kh : Int → Int → Mu → Option (Int × Mu)) (hkh : ∀ (z4 : Int) (z5 : Int) (zu : Mu), ((kh z4 z5 zu).bind Kf = some r) → J5 G l D5_because a (some (pI r.1)) r.2 zu 48 [(0, pR (some G.1)), (3, pI v3), (4, pI z4), (5, pI z5)] []) (hK0 : ∀ q : Int × Mu, Kf q = some r → J5 G l D5_because a (some (pI r.1)) r.2 q.2 102 [(0, pR (some G.1)), (3, pI v3), (4, pI q.1)] []) (v5 : Int) (s0 : Int) (s1 : Int) (u : Mu) (hf : (m5_because_b93 kh v3 v5 s0 s1 u).bind Kf = some r) : J5 G l D5_because a (some (pI r.1)) r.2 u 93 [(0, pR (some G.1)), (3, pI v3), (5, pI v5)] [pI s1, pI s0] := by
  unfold m5_because_b93 at hf
  refine j_ior dX5_because_93 ?_
  refine j_istore dX5_because_94 [(4, pI (or32 s0 s1)), (0, pR (some G.1)), (3, pI v3), (5, pI v5)] (Nat.le_of_ble_eq_true rfl) rfl ?_
  refine j_iinc dX5_because_96 3 rfl [(5, pI (v5 + 1)), (4, pI (or32 s0 s1)), (0, pR (some G.1)), (3, pI v3)] (Nat.le_of_ble_eq_true rfl) rfl ?_
  refine j_goto 48 dX5_because_99 (by decide) ?_
  exact j_sub [2, 3, 1, 0] _ rfl (hkh (or32 s0 s1) (v5 + 1) u hf)
theorem c5_because_l48 {G : MG} {l : Launch} {a : List PV} {r : Int × Mu} {Kf : Int × Mu → Option (Int × Mu)} (v3 : Int) (hK0 : ∀ q : Int × Mu, Kf q = some r → J5 G l D5_because a (some (pI r.1)) r.2 q.2 102 [(0, pR (some G.1)), (3, pI v3), (4, pI q.1)] []) : ∀ (n : Nat) (v4 : Int) (v5 : Int) (u : Mu), ((m5_because_l48 v3 n v4 v5 u).bind Kf = some r) → J5 G l D5_because a (some (pI r.1)) r.2 u 48 [(0, pR (some G.1)), (3, pI v3), (4, pI v4), (5, pI v5)] [] := by
  intro n
  induction n with
  | zero => intro v4 v5 u hf; exact onb hf
  | succ n ih =>
    intro v4 v5 u hf
    unfold m5_because_l48 at hf
    refine j_iload dX5_because_48 3 rfl ?_
    refine j_aload_n dX5_because_50 0 rfl ?_
    refine m_geta mf_12 rfl dX5_because_51 ?_
    refine j_iload_n dX5_because_54 1 rfl ?_
    obtain ⟨x1, hx1, hf⟩ := obb hf
    refine m_iald mr_12 hx1 dX5_because_55 ?_
    refine j_icmp_ge (w32 v5) (w32 x1) rfl rfl 102 dX5_because_56 (by decide) (fun h6 => ?_) (fun h6 => ?_)
    · replace hf := itb h6 hf
      exact j_sub [0, 1, 2] _ rfl (hK0 (v4, u) hf)
    · replace hf := ieb h6 hf
      refine j_aload_n dX5_because_59 0 rfl ?_
      refine m_geta mf_80 rfl dX5_because_60 ?_
      refine j_iload dX5_because_63 3 rfl ?_
      refine j_aload_n dX5_because_65 0 rfl ?_
      refine m_geta mf_76 rfl dX5_because_66 ?_
      refine j_iload dX5_because_69 3 rfl ?_
      obtain ⟨x2, hx2, hf⟩ := obb hf
      refine m_iald mr_76 hx2 dX5_because_71 ?_
      obtain ⟨u3, hu3, hf⟩ := obb hf
      refine m_iast mr_80 hu3 dX5_because_72 ?_
      refine j_iload dX5_because_73 2 rfl ?_
      refine j_aload_n dX5_because_75 0 rfl ?_
      refine m_geta mf_76 rfl dX5_because_76 ?_
      refine j_iload dX5_because_79 3 rfl ?_
      obtain ⟨x4, hx4, hf⟩ := obb hf
      refine m_iald mr_76 hx4 dX5_because_81 ?_
      refine j_if_lt (w32 x4) rfl 92 dX5_because_82 (by decide) (fun h5 => ?_) (fun h5 => ?_)
      · replace hf := itb h5 hf
        refine j_iconst dX5_because_92 ?_
        exact j_sub [0, 1, 3] _ rfl (c5_because_b93 (m5_because_l48 v3 n) ih hK0 v5 v4 0 u3 hf)
      · replace hf := ieb h5 hf
        refine j_iconst dX5_because_85 ?_
        refine j_iload dX5_because_86 3 rfl ?_
        refine j_ishl dX5_because_88 ?_
        refine j_goto 93 dX5_because_89 (by decide) ?_
        exact j_sub [0, 1, 3] _ rfl (c5_because_b93 (m5_because_l48 v3 n) ih hK0 v5 v4 (shl32 1 v5) u3 hf)
theorem c5_because_l143 {G : MG} {l : Launch} {a : List PV} {r : Int × Mu} {Kf : Mu → Option (Int × Mu)} (v3 : Int) (v4 : Int) (v5 : Int) (v6 : Int) (hK0 : ∀ q : Mu, Kf q = some r → J5 G l D5_because a (some (pI r.1)) r.2 q 189 [(0, pR (some G.1)), (3, pI v3), (4, pI v4), (5, pI v5), (6, pI v6)] []) : ∀ (n : Nat) (v7 : Int) (u : Mu), ((m5_because_l143 v3 v4 v5 v6 n v7 u).bind Kf = some r) → J5 G l D5_because a (some (pI r.1)) r.2 u 143 [(0, pR (some G.1)), (3, pI v3), (4, pI v4), (5, pI v5), (6, pI v6), (7, pI v7)] [] := by
  intro n
  induction n with
  | zero => intro v7 u hf; exact onb hf
  | succ n ih =>
    intro v7 u hf
    unfold m5_because_l143 at hf
    refine j_iload dX5_because_143 5 rfl ?_
    refine j_aload_n dX5_because_145 0 rfl ?_
    refine m_geta mf_12 rfl dX5_because_146 ?_
    refine j_iload_n dX5_because_149 1 rfl ?_
    obtain ⟨x1, hx1, hf⟩ := obb hf
    refine m_iald mr_12 hx1 dX5_because_150 ?_
    refine j_icmp_ge (w32 v7) (w32 x1) rfl rfl 189 dX5_because_151 (by decide) (fun h6 => ?_) (fun h6 => ?_)
    · replace hf := itb h6 hf
      exact j_sub [0, 1, 2, 3, 4] _ rfl (hK0 u hf)
    · replace hf := ieb h6 hf
      refine j_aload_n dX5_because_154 0 rfl ?_
      refine m_geta mf_76 rfl dX5_because_155 ?_
      refine j_iload dX5_because_158 5 rfl ?_
      refine j_iload dX5_because_160 4 rfl ?_
      refine j_iload dX5_because_162 5 rfl ?_
      refine j_ishr dX5_because_164 ?_
      refine j_iconst dX5_because_165 ?_
      refine j_iand dX5_because_166 ?_
      refine j_iconst dX5_because_167 ?_
      refine j_icmp_ne (w32 (and32 (shr32 v6 v7) 1)) 1 rfl rfl 181 dX5_because_168 (by decide) (fun h5 => ?_) (fun h5 => ?_)
      · replace hf := ieb h5 hf
        refine j_iconst dX5_because_181 ?_
        obtain ⟨u2, hu2, hf⟩ := obb hf
        refine m_iast mr_76 hu2 dX5_because_182 ?_
        refine j_iinc dX5_because_183 5 rfl [(7, pI (v7 + 1)), (0, pR (some G.1)), (3, pI v3), (4, pI v4), (5, pI v5), (6, pI v6)] (Nat.le_of_ble_eq_true rfl) rfl ?_
        refine j_goto 143 dX5_because_186 (by decide) ?_
        exact j_sub [1, 2, 3, 4, 5, 0] _ rfl (ih (v7 + 1) u2 hf)
      · replace hf := itb h5 hf
        refine j_aload_n dX5_because_171 0 rfl ?_
        refine m_geta mf_80 rfl dX5_because_172 ?_
        refine j_iload dX5_because_175 5 rfl ?_
        obtain ⟨x3, hx3, hf⟩ := obb hf
        refine m_iald mr_80 hx3 dX5_because_177 ?_
        refine j_goto 182 dX5_because_178 (by decide) ?_
        obtain ⟨u4, hu4, hf⟩ := obb hf
        refine m_iast mr_76 hu4 dX5_because_182 ?_
        refine j_iinc dX5_because_183 5 rfl [(7, pI (v7 + 1)), (0, pR (some G.1)), (3, pI v3), (4, pI v4), (5, pI v5), (6, pI v6)] (Nat.le_of_ble_eq_true rfl) rfl ?_
        refine j_goto 143 dX5_because_186 (by decide) ?_
        exact j_sub [1, 2, 3, 4, 5, 0] _ rfl (ih (v7 + 1) u4 hf)
theorem c5_because_l109 {G : MG} {l : Launch} {a : List PV} {r : Int × Mu} {Kf : Int × Mu → Option (Int × Mu)} (v3 : Int) (v4 : Int) (hK0 : ∀ q : Int × Mu, Kf q = some r → J5 G l D5_because a (some (pI r.1)) r.2 q.2 208 [(5, pI q.1)] []) : ∀ (n : Nat) (v5 : Int) (v6 : Int) (u : Mu), ((m5_because_l109 v3 v4 n v5 v6 u).bind Kf = some r) → J5 G l D5_because a (some (pI r.1)) r.2 u 109 [(0, pR (some G.1)), (3, pI v3), (4, pI v4), (5, pI v5), (6, pI v6)] [] := by
  intro n
  induction n with
  | zero => intro v5 v6 u hf; exact onb hf
  | succ n ih =>
    intro v5 v6 u hf
    unfold m5_because_l109 at hf
    refine j_iload dX5_because_109 4 rfl ?_
    refine j_sipush dX5_because_111 (by decide) ?_
    refine j_icmp_ge (w32 v6) 256 rfl rfl 208 dX5_because_114 (by decide) (fun h7 => ?_) (fun h7 => ?_)
    · replace hf := itb h7 hf
      exact j_sub [3] _ rfl (hK0 (v5, u) hf)
    · replace hf := ieb h7 hf
      refine j_iload dX5_because_117 4 rfl ?_
      refine j_iload dX5_because_119 2 rfl ?_
      refine j_iconst dX5_because_121 ?_
      refine j_ixor dX5_because_122 ?_
      refine j_iand dX5_because_123 ?_
      refine j_if_ne (w32 (and32 v6 (xor32 v4 (-1)))) rfl 202 dX5_because_124 (by decide) (fun h6 => ?_) (fun h6 => ?_)
      · replace hf := ieb h6 hf
        refine j_iinc dX5_because_202 4 rfl [(6, pI (v6 + 1)), (0, pR (some G.1)), (3, pI v3), (4, pI v4), (5, pI v5)] (Nat.le_of_ble_eq_true rfl) rfl ?_
        refine j_goto 109 dX5_because_205 (by decide) ?_
        exact j_sub [1, 2, 3, 4, 0] _ rfl (ih v5 (v6 + 1) u hf)
      · replace hf := itb h6 hf
        refine j_iload dX5_because_127 4 rfl ?_
        refine j_iload dX5_because_129 3 rfl ?_
        obtain ⟨x1, hx1, hf⟩ := obb hf
        refine j_cSr [pI v6, pI v5] [] kT_v (bM_mv G) (c5_isBefore v6 v5 u hx1) wv5_isBefore dv5_isBefore rfl ⟨(Nat.le_of_ble_eq_true rfl), (Nat.le_of_ble_eq_true rfl)⟩ rfl (Nat.le_of_ble_eq_true rfl) dX5_because_131 ⟨Nat.le_refl 0, Nat.le_refl 0⟩ ?_
        refine j_if_ne (w32 x1) rfl 140 dX5_because_134 (by decide) (fun h5 => ?_) (fun h5 => ?_)
        · replace hf := ieb h5 hf
          refine j_iconst dX5_because_140 ?_
          refine j_istore dX5_because_141 [(7, pI 0), (0, pR (some G.1)), (3, pI v3), (4, pI v4), (5, pI v5), (6, pI v6)] (Nat.le_of_ble_eq_true rfl) rfl ?_
          replace hf := oba hf
          refine j_sub [1, 2, 3, 4, 5, 0] _ rfl (c5_because_l143 v3 v4 v5 v6 ?_ NN 0 u hf)
          · intro q2 hf
            refine j_aload_n dX5_because_189 0 rfl ?_
            refine j_iload_n dX5_because_190 1 rfl ?_
            obtain ⟨q3, hq3, hf⟩ := obb hf
            refine j_cVr [pI v3] [] kT_v (bM_mv G) (c5_settled v3 q2 hq3) wv5_settled dv5_settled rfl ⟨(Nat.le_of_ble_eq_true rfl), (Nat.le_of_ble_eq_true rfl)⟩ (m_recv q2) rfl (Nat.le_of_ble_eq_true rfl) dX5_because_191 ⟨Nat.le_refl 0, Nat.le_refl 0⟩ ?_
            refine j_iconst dX5_because_194 ?_
            refine j_icmp_eq (w32 q3.1) 2 rfl rfl 202 dX5_because_195 (by decide) (fun h4 => ?_) (fun h4 => ?_)
            · replace hf := itb h4 hf
              refine j_iinc dX5_because_202 4 rfl [(6, pI (v6 + 1)), (0, pR (some G.1)), (3, pI v3), (4, pI v4), (5, pI v5)] (Nat.le_of_ble_eq_true rfl) rfl ?_
              refine j_goto 109 dX5_because_205 (by decide) ?_
              exact j_sub [1, 2, 3, 4, 0] _ rfl (ih v5 (v6 + 1) q3.2 hf)
            · replace hf := ieb h4 hf
              refine j_iload dX5_because_198 4 rfl ?_
              refine j_istore dX5_because_200 [(5, pI v6), (0, pR (some G.1)), (3, pI v3), (4, pI v4), (6, pI v6)] (Nat.le_of_ble_eq_true rfl) rfl ?_
              refine j_iinc dX5_because_202 4 rfl [(6, pI (v6 + 1)), (5, pI v6), (0, pR (some G.1)), (3, pI v3), (4, pI v4)] (Nat.le_of_ble_eq_true rfl) rfl ?_
              refine j_goto 109 dX5_because_205 (by decide) ?_
              exact j_sub [2, 3, 4, 1, 0] _ rfl (ih v6 (v6 + 1) q3.2 hf)
        · replace hf := itb h5 hf
          refine j_goto 202 dX5_because_137 (by decide) ?_
          refine j_iinc dX5_because_202 4 rfl [(6, pI (v6 + 1)), (0, pR (some G.1)), (3, pI v3), (4, pI v4), (5, pI v5)] (Nat.le_of_ble_eq_true rfl) rfl ?_
          refine j_goto 109 dX5_because_205 (by decide) ?_
          exact j_sub [1, 2, 3, 4, 0] _ rfl (ih v5 (v6 + 1) u hf)
theorem c5_because {G : MG} {l : Launch} {r : Int × Mu} (v1 : Int) (v2 : Int) (u : Mu) (hf : m5_because v1 v2 u = some r) : JM kT (bM G) (aM G) l yX5_because D5_because [pR (some G.1), pI v1, pI v2] u (some (pI r.1)) r.2 0 0 := by
  refine j_met (lv0 := [(0, pR (some G.1)), (1, pI v1), (2, pI v2)]) ⟨pl_X5, rfl, rfl, (Nat.le_of_ble_eq_true rfl), rfl⟩ ?_
  unfold m5_because at hf
  refine j_aload_n dX5_because_0 0 rfl ?_
  refine j_iload_n dX5_because_1 1 rfl ?_
  refine j_iload_n dX5_because_2 2 rfl ?_
  obtain ⟨x1, hx1, hf⟩ := ob hf
  refine j_cVr [pI v1, pI v2] [] kT_v (bM_mv G) (c5_noEvent v1 v2 u hx1) wv5_noEvent dv5_noEvent rfl ⟨(Nat.le_of_ble_eq_true rfl), (Nat.le_of_ble_eq_true rfl)⟩ (m_recv u) rfl (Nat.le_of_ble_eq_true rfl) dX5_because_3 ⟨Nat.le_refl 0, Nat.le_refl 0⟩ ?_
  refine j_if_ge (w32 x1) rfl 16 dX5_because_6 (by decide) (fun h9 => ?_) (fun h9 => ?_)
  · replace hf := it h9 hf
    refine j_aload_n dX5_because_16 0 rfl ?_
    refine m_geta mf_72 rfl dX5_because_17 ?_
    refine j_iload_n dX5_because_20 1 rfl ?_
    obtain ⟨x2, hx2, hf⟩ := ob hf
    refine m_iald mr_72 hx2 dX5_because_21 ?_
    refine j_istore_n dX5_because_22 [(3, pI x2), (0, pR (some G.1)), (1, pI v1), (2, pI v2)] (Nat.le_of_ble_eq_true rfl) rfl ?_
    refine j_aload_n dX5_because_23 1 rfl ?_
    refine j_iload_n dX5_because_24 0 rfl ?_
    refine j_iload_n dX5_because_25 2 rfl ?_
    refine j_iload_n dX5_because_26 3 rfl ?_
    obtain ⟨u3, hu3, hf⟩ := ob hf
    refine j_cVv [pI x2, pI v1, pI v2] [] kT_v (bM_mv G) (c5_takeDigits x2 v1 v2 u hu3) wv5_takeDigits dv5_takeDigits rfl ⟨(Nat.le_of_ble_eq_true rfl), (Nat.le_of_ble_eq_true rfl)⟩ (m_recv u) rfl (Nat.le_of_ble_eq_true rfl) dX5_because_27 ⟨Nat.le_refl 0, Nat.le_refl 0⟩ ?_
    refine j_aload_n dX5_because_30 1 rfl ?_
    refine j_iload_n dX5_because_31 0 rfl ?_
    obtain ⟨q4, hq4, hf⟩ := ob hf
    refine j_cVr [pI x2] [] kT_v (bM_mv G) (c5_settled x2 u3 hq4) wv5_settled dv5_settled rfl ⟨(Nat.le_of_ble_eq_true rfl), (Nat.le_of_ble_eq_true rfl)⟩ (m_recv u3) rfl (Nat.le_of_ble_eq_true rfl) dX5_because_32 ⟨Nat.le_refl 0, Nat.le_refl 0⟩ ?_
    refine j_iconst dX5_because_35 ?_
    refine j_icmp_ne (w32 q4.1) 2 rfl rfl 42 dX5_because_36 (by decide) (fun h7 => ?_) (fun h7 => ?_)
    · replace hf := ie h7 hf
      refine j_iconst dX5_because_42 ?_
      refine j_istore dX5_because_43 [(4, pI 0), (3, pI x2), (0, pR (some G.1)), (1, pI v1), (2, pI v2)] (Nat.le_of_ble_eq_true rfl) rfl ?_
      refine j_iconst dX5_because_45 ?_
      refine j_istore dX5_because_46 [(5, pI 0), (4, pI 0), (3, pI x2), (0, pR (some G.1)), (1, pI v1), (2, pI v2)] (Nat.le_of_ble_eq_true rfl) rfl ?_
      refine j_sub [3, 2, 1, 0] _ rfl (c5_because_l48 x2 ?_ NN 0 0 q4.2 hf)
      · intro q5 hf
        refine j_iload dX5_because_102 2 rfl ?_
        refine j_istore dX5_because_104 [(5, pI q5.1), (0, pR (some G.1)), (3, pI x2), (4, pI q5.1)] (Nat.le_of_ble_eq_true rfl) rfl ?_
        refine j_iconst dX5_because_106 ?_
        refine j_istore dX5_because_107 [(6, pI 0), (5, pI q5.1), (0, pR (some G.1)), (3, pI x2), (4, pI q5.1)] (Nat.le_of_ble_eq_true rfl) rfl ?_
        refine j_sub [2, 3, 4, 1, 0] _ rfl (c5_because_l109 x2 q5.1 ?_ NN q5.1 0 q5.2 hf)
        · intro q6 hf
          refine j_iload dX5_because_208 0 rfl ?_
          replace hf := Option.some.inj hf
          subst hf
          exact j_ireturn (bM_mv G) ⟨Nat.le_refl 0, Nat.le_refl 0⟩ rfl dX5_because_210
    · replace hf := it h7 hf
      refine j_bipush dX5_because_39 (by decide) ?_
      replace hf := Option.some.inj hf
      subst hf
      exact j_ireturn (bM_mv G) ⟨Nat.le_refl 0, Nat.le_refl 0⟩ rfl dX5_because_41
  · replace hf := ie h9 hf
    refine j_aload_n dX5_because_9 0 rfl ?_
    refine j_iload_n dX5_because_10 1 rfl ?_
    refine j_iload_n dX5_because_11 2 rfl ?_
    obtain ⟨x8, hx8, hf⟩ := ob hf
    refine j_cVr [pI v1, pI v2] [] kT_v (bM_mv G) (c5_noEvent v1 v2 u hx8) wv5_noEvent dv5_noEvent rfl ⟨(Nat.le_of_ble_eq_true rfl), (Nat.le_of_ble_eq_true rfl)⟩ (m_recv u) rfl (Nat.le_of_ble_eq_true rfl) dX5_because_12 ⟨Nat.le_refl 0, Nat.le_refl 0⟩ ?_
    replace hf := Option.some.inj hf
    subst hf
    exact j_ireturn (bM_mv G) ⟨Nat.le_refl 0, Nat.le_refl 0⟩ rfl dX5_because_15
theorem c5_decider_l26 {G : MG} {l : Launch} {a : List PV} {r : Int × Mu} {Kf : (Mu) ⊕ (Mu) → Option (Int × Mu)} (v1 : Int) (v2 : Int) (v3 : Int) (hK0 : ∀ q : Mu, Kf (.inl q) = some r → J5 G l D5_decider a (some (pI r.1)) r.2 q 62 [] []) (hK1 : ∀ q : Mu, Kf (.inr q) = some r → J5 G l D5_decider a (some (pI r.1)) r.2 q 71 [(0, pR (some G.1)), (3, pI v3)] []) : ∀ (n : Nat) (v4 : Int) (u : Mu), ((m5_decider_l26 v1 v2 v3 n v4 u).bind Kf = some r) → J5 G l D5_decider a (some (pI r.1)) r.2 u 26 [(0, pR (some G.1)), (1, pI v1), (2, pI v2), (3, pI v3), (4, pI v4)] [] := by
  intro n
  induction n with
  | zero => intro v4 u hf; exact onb hf
  | succ n ih =>
    intro v4 u hf
    unfold m5_decider_l26 at hf
    refine j_iload dX5_decider_26 4 rfl ?_
    refine j_aload_n dX5_decider_28 0 rfl ?_
    refine m_geta mf_12 rfl dX5_decider_29 ?_
    refine j_iload_n dX5_decider_32 3 rfl ?_
    obtain ⟨x1, hx1, hf⟩ := obb hf
    refine m_iald mr_12 hx1 dX5_decider_33 ?_
    refine j_icmp_ge (w32 v4) (w32 x1) rfl rfl 71 dX5_decider_34 (by decide) (fun h6 => ?_) (fun h6 => ?_)
    · replace hf := itb h6 hf
      exact j_sub [0, 3] _ rfl (hK1 u hf)
    · replace hf := ieb h6 hf
      refine j_aload_n dX5_decider_37 0 rfl ?_
      refine m_geta mf_59 rfl dX5_decider_38 ?_
      refine j_iload dX5_decider_41 4 rfl ?_
      refine j_aload_n dX5_decider_43 0 rfl ?_
      refine j_iload_n dX5_decider_44 1 rfl ?_
      refine j_iload dX5_decider_45 4 rfl ?_
      refine j_iload_n dX5_decider_47 2 rfl ?_
      obtain ⟨x2, hx2, hf⟩ := obb hf
      refine j_cVr [pI v1, pI v4, pI v2] [pI v4, pR (some (G.2.1 59))] kT_v (bM_mv G) (c5_factAt v1 v4 v2 u hx2) wv5_factAt dv5_factAt rfl ⟨(Nat.le_of_ble_eq_true rfl), (Nat.le_of_ble_eq_true rfl)⟩ (m_recv u) rfl (Nat.le_of_ble_eq_true rfl) dX5_decider_48 ⟨Nat.le_refl 0, Nat.le_refl 0⟩ ?_
      obtain ⟨u3, hu3, hf⟩ := obb hf
      refine m_iast mr_59 hu3 dX5_decider_51 ?_
      refine j_aload_n dX5_decider_52 0 rfl ?_
      refine m_geta mf_59 rfl dX5_decider_53 ?_
      refine j_iload dX5_decider_56 4 rfl ?_
      obtain ⟨x4, hx4, hf⟩ := obb hf
      refine m_iald mr_59 hx4 dX5_decider_58 ?_
      refine j_if_ge (w32 x4) rfl 65 dX5_decider_59 (by decide) (fun h5 => ?_) (fun h5 => ?_)
      · replace hf := itb h5 hf
        refine j_iinc dX5_decider_65 4 rfl [(4, pI (v4 + 1)), (0, pR (some G.1)), (1, pI v1), (2, pI v2), (3, pI v3)] (Nat.le_of_ble_eq_true rfl) rfl ?_
        refine j_goto 26 dX5_decider_68 (by decide) ?_
        exact j_sub [1, 2, 3, 4, 0] _ rfl (ih (v4 + 1) u3 hf)
      · replace hf := ieb h5 hf
        exact j_sub [] _ rfl (hK0 u3 hf)
theorem c5_decider {G : MG} {l : Launch} {r : Int × Mu} (v1 : Int) (v2 : Int) (u : Mu) (hf : m5_decider v1 v2 u = some r) : JM kT (bM G) (aM G) l yX5_decider D5_decider [pR (some G.1), pI v1, pI v2] u (some (pI r.1)) r.2 0 0 := by
  refine j_met (lv0 := [(0, pR (some G.1)), (1, pI v1), (2, pI v2)]) ⟨pl_X5, rfl, rfl, (Nat.le_of_ble_eq_true rfl), rfl⟩ ?_
  unfold m5_decider at hf
  refine j_aload_n dX5_decider_0 0 rfl ?_
  refine j_iload_n dX5_decider_1 1 rfl ?_
  refine j_iload_n dX5_decider_2 2 rfl ?_
  obtain ⟨x1, hx1, hf⟩ := ob hf
  refine j_cVr [pI v1, pI v2] [] kT_v (bM_mv G) (c5_noEvent v1 v2 u hx1) wv5_noEvent dv5_noEvent rfl ⟨(Nat.le_of_ble_eq_true rfl), (Nat.le_of_ble_eq_true rfl)⟩ (m_recv u) rfl (Nat.le_of_ble_eq_true rfl) dX5_decider_3 ⟨Nat.le_refl 0, Nat.le_refl 0⟩ ?_
  refine j_if_ge (w32 x1) rfl 16 dX5_decider_6 (by decide) (fun h7 => ?_) (fun h7 => ?_)
  · replace hf := it h7 hf
    refine j_aload_n dX5_decider_16 0 rfl ?_
    refine m_geta mf_72 rfl dX5_decider_17 ?_
    refine j_iload_n dX5_decider_20 1 rfl ?_
    obtain ⟨x2, hx2, hf⟩ := ob hf
    refine m_iald mr_72 hx2 dX5_decider_21 ?_
    refine j_istore_n dX5_decider_22 [(3, pI x2), (0, pR (some G.1)), (1, pI v1), (2, pI v2)] (Nat.le_of_ble_eq_true rfl) rfl ?_
    refine j_iconst dX5_decider_23 ?_
    refine j_istore dX5_decider_24 [(4, pI 0), (3, pI x2), (0, pR (some G.1)), (1, pI v1), (2, pI v2)] (Nat.le_of_ble_eq_true rfl) rfl ?_
    refine j_sub [2, 3, 4, 1, 0] _ rfl (c5_decider_l26 v1 v2 x2 ?_ ?_ NN 0 u hf)
    · intro q3 hf
      simp only [Sum.elim_inl, Sum.elim_inr] at hf
      refine j_bipush dX5_decider_62 (by decide) ?_
      replace hf := Option.some.inj hf
      subst hf
      exact j_ireturn (bM_mv G) ⟨Nat.le_refl 0, Nat.le_refl 0⟩ rfl dX5_decider_64
    · intro q4 hf
      simp only [Sum.elim_inl, Sum.elim_inr] at hf
      refine j_aload_n dX5_decider_71 0 rfl ?_
      refine j_iload_n dX5_decider_72 1 rfl ?_
      obtain ⟨q5, hq5, hf⟩ := ob hf
      refine j_cVr [pI x2] [] kT_v (bM_mv G) (c5_answers x2 q4 hq5) wv5_answers dv5_answers rfl ⟨(Nat.le_of_ble_eq_true rfl), (Nat.le_of_ble_eq_true rfl)⟩ (m_recv q4) rfl (Nat.le_of_ble_eq_true rfl) dX5_decider_73 ⟨Nat.le_refl 0, Nat.le_refl 0⟩ ?_
      refine j_istore dX5_decider_76 [(4, pI q5.1), (0, pR (some G.1)), (3, pI x2)] (Nat.le_of_ble_eq_true rfl) rfl ?_
      refine j_aload_n dX5_decider_78 1 rfl ?_
      refine m_geti mf_62 rfl dX5_decider_79 ?_
      replace hf := Option.some.inj hf
      subst hf
      exact j_ireturn (bM_mv G) ⟨Nat.le_refl 0, Nat.le_refl 0⟩ rfl dX5_decider_82
  · replace hf := ie h7 hf
    refine j_aload_n dX5_decider_9 0 rfl ?_
    refine j_iload_n dX5_decider_10 1 rfl ?_
    refine j_iload_n dX5_decider_11 2 rfl ?_
    obtain ⟨x6, hx6, hf⟩ := ob hf
    refine j_cVr [pI v1, pI v2] [] kT_v (bM_mv G) (c5_noEvent v1 v2 u hx6) wv5_noEvent dv5_noEvent rfl ⟨(Nat.le_of_ble_eq_true rfl), (Nat.le_of_ble_eq_true rfl)⟩ (m_recv u) rfl (Nat.le_of_ble_eq_true rfl) dX5_decider_12 ⟨Nat.le_refl 0, Nat.le_refl 0⟩ ?_
    replace hf := Option.some.inj hf
    subst hf
    exact j_ireturn (bM_mv G) ⟨Nat.le_refl 0, Nat.le_refl 0⟩ rfl dX5_decider_15
theorem c5_countWays_b42 {G : MG} {l : Launch} {a : List PV} {r : Mu} {Kf : Mu → Option (Mu)} {v1 : Int} (kh : Int → Mu → Option (Mu)) (hkh : ∀ (z2 : Int) (zu : Mu), ((kh z2 zu).bind Kf = some r) → J5 G l D5_countWays a none r zu 21 [(0, pR (some G.1)), (1, pI v1), (2, pI z2)] []) (hK0 : ∀ q : Mu, Kf q = some r → J5 G l D5_countWays a none r q 56 [] []) (s1 : Int) (u : Mu) (hf : (m5_countWays_b42 kh v1 s1 u).bind Kf = some r) : J5 G l D5_countWays a none r u 42 [(0, pR (some G.1)), (1, pI v1)] [pI s1, pR (some (G.2.1 78))] := by
  unfold m5_countWays_b42 at hf
  refine j_dup2_11 dX5_countWays_42 rfl rfl ?_
  obtain ⟨x1, hx1, hf⟩ := obb hf
  refine m_iald mr_78 hx1 dX5_countWays_43 ?_
  refine j_iconst dX5_countWays_44 ?_
  refine j_iadd dX5_countWays_45 ?_
  obtain ⟨u2, hu2, hf⟩ := obb hf
  refine m_iast mr_78 hu2 dX5_countWays_46 ?_
  refine j_aload_n dX5_countWays_47 0 rfl ?_
  refine j_iload_n dX5_countWays_48 1 rfl ?_
  obtain ⟨q3, hq3, hf⟩ := obb hf
  refine j_cVr [pI v1] [] kT_v (bM_mv G) (c5_nextWay v1 u2 hq3) wv5_nextWay dv5_nextWay rfl ⟨(Nat.le_of_ble_eq_true rfl), (Nat.le_of_ble_eq_true rfl)⟩ (m_recv u2) rfl (Nat.le_of_ble_eq_true rfl) dX5_countWays_49 ⟨Nat.le_refl 0, Nat.le_refl 0⟩ ?_
  refine j_istore_n dX5_countWays_52 [(2, pI q3.1), (0, pR (some G.1)), (1, pI v1)] (Nat.le_of_ble_eq_true rfl) rfl ?_
  refine j_goto 21 dX5_countWays_53 (by decide) ?_
  exact j_sub [1, 2, 0] _ rfl (hkh q3.1 q3.2 hf)
theorem c5_countWays_l21 {G : MG} {l : Launch} {a : List PV} {r : Mu} {Kf : Mu → Option (Mu)} (v1 : Int) (hK0 : ∀ q : Mu, Kf q = some r → J5 G l D5_countWays a none r q 56 [] []) : ∀ (n : Nat) (v2 : Int) (u : Mu), ((m5_countWays_l21 v1 n v2 u).bind Kf = some r) → J5 G l D5_countWays a none r u 21 [(0, pR (some G.1)), (1, pI v1), (2, pI v2)] [] := by
  intro n
  induction n with
  | zero => intro v2 u hf; exact onb hf
  | succ n ih =>
    intro v2 u hf
    unfold m5_countWays_l21 at hf
    refine j_iload_n dX5_countWays_21 2 rfl ?_
    refine j_if_eq (w32 v2) rfl 56 dX5_countWays_22 (by decide) (fun h3 => ?_) (fun h3 => ?_)
    · replace hf := itb h3 hf
      exact j_sub [] _ rfl (hK0 u hf)
    · replace hf := ieb h3 hf
      refine j_aload_n dX5_countWays_25 0 rfl ?_
      refine m_geta mf_78 rfl dX5_countWays_26 ?_
      refine j_aload_n dX5_countWays_29 0 rfl ?_
      refine j_iload_n dX5_countWays_30 1 rfl ?_
      obtain ⟨x1, hx1, hf⟩ := obb hf
      refine j_cVr [pI v1] [pR (some (G.2.1 78))] kT_v (bM_mv G) (c5_wayAnswer v1 u hx1) wv5_wayAnswer dv5_wayAnswer rfl ⟨(Nat.le_of_ble_eq_true rfl), (Nat.le_of_ble_eq_true rfl)⟩ (m_recv u) rfl (Nat.le_of_ble_eq_true rfl) dX5_countWays_31 ⟨Nat.le_refl 0, Nat.le_refl 0⟩ ?_
      refine j_if_eq (w32 x1) rfl 41 dX5_countWays_34 (by decide) (fun h2 => ?_) (fun h2 => ?_)
      · replace hf := itb h2 hf
        refine j_iconst dX5_countWays_41 ?_
        exact j_sub [0, 1] _ rfl (c5_countWays_b42 (m5_countWays_l21 v1 n) ih hK0 0 u hf)
      · replace hf := ieb h2 hf
        refine j_iconst dX5_countWays_37 ?_
        refine j_goto 42 dX5_countWays_38 (by decide) ?_
        exact j_sub [0, 1] _ rfl (c5_countWays_b42 (m5_countWays_l21 v1 n) ih hK0 1 u hf)
theorem c5_countWays {G : MG} {l : Launch} {r : Mu} (v1 : Int) (u : Mu) (hf : m5_countWays v1 u = some r) : JM kT (bM G) (aM G) l yX5_countWays D5_countWays [pR (some G.1), pI v1] u none r 0 0 := by
  refine j_met (lv0 := [(0, pR (some G.1)), (1, pI v1)]) ⟨pl_X5, rfl, rfl, (Nat.le_of_ble_eq_true rfl), rfl⟩ ?_
  unfold m5_countWays at hf
  refine j_aload_n dX5_countWays_0 0 rfl ?_
  refine m_geta mf_78 rfl dX5_countWays_1 ?_
  refine j_iconst dX5_countWays_4 ?_
  refine j_iconst dX5_countWays_5 ?_
  obtain ⟨u1, hu1, hf⟩ := ob hf
  refine m_iast mr_78 hu1 dX5_countWays_6 ?_
  refine j_aload_n dX5_countWays_7 0 rfl ?_
  refine m_geta mf_78 rfl dX5_countWays_8 ?_
  refine j_iconst dX5_countWays_11 ?_
  refine j_iconst dX5_countWays_12 ?_
  obtain ⟨u2, hu2, hf⟩ := ob hf
  refine m_iast mr_78 hu2 dX5_countWays_13 ?_
  refine j_aload_n dX5_countWays_14 0 rfl ?_
  refine j_iload_n dX5_countWays_15 1 rfl ?_
  obtain ⟨u3, hu3, hf⟩ := ob hf
  refine j_cVv [pI v1] [] kT_v (bM_mv G) (c5_firstWay v1 u2 hu3) wv5_firstWay dv5_firstWay rfl ⟨(Nat.le_of_ble_eq_true rfl), (Nat.le_of_ble_eq_true rfl)⟩ (m_recv u2) rfl (Nat.le_of_ble_eq_true rfl) dX5_countWays_16 ⟨Nat.le_refl 0, Nat.le_refl 0⟩ ?_
  refine j_iconst dX5_countWays_19 ?_
  refine j_istore_n dX5_countWays_20 [(2, pI 1), (0, pR (some G.1)), (1, pI v1)] (Nat.le_of_ble_eq_true rfl) rfl ?_
  refine j_sub [1, 2, 0] _ rfl (c5_countWays_l21 v1 ?_ NN 1 u3 hf)
  · intro q4 hf
    replace hf := Option.some.inj hf
    subst hf
    exact j_return (bM_mv G) ⟨Nat.le_refl 0, Nat.le_refl 0⟩ rfl dX5_countWays_56
theorem c5_ways {G : MG} {l : Launch} {r : Int × Mu} (v1 : Int) (v2 : Int) (v3 : Int) (u : Mu) (hf : m5_ways v1 v2 v3 u = some r) : JM kT (bM G) (aM G) l yX5_ways D5_ways [pR (some G.1), pI v1, pI v2, pI v3] u (some (pI r.1)) r.2 0 0 := by
  refine j_met (lv0 := [(0, pR (some G.1)), (1, pI v1), (2, pI v2), (3, pI v3)]) ⟨pl_X5, rfl, rfl, (Nat.le_of_ble_eq_true rfl), rfl⟩ ?_
  unfold m5_ways at hf
  refine j_aload_n dX5_ways_0 0 rfl ?_
  refine j_iload_n dX5_ways_1 1 rfl ?_
  refine j_iload_n dX5_ways_2 2 rfl ?_
  obtain ⟨x1, hx1, hf⟩ := ob hf
  refine j_cVr [pI v1, pI v2] [] kT_v (bM_mv G) (c5_noEvent v1 v2 u hx1) wv5_noEvent dv5_noEvent rfl ⟨(Nat.le_of_ble_eq_true rfl), (Nat.le_of_ble_eq_true rfl)⟩ (m_recv u) rfl (Nat.le_of_ble_eq_true rfl) dX5_ways_3 ⟨Nat.le_refl 0, Nat.le_refl 0⟩ ?_
  refine j_if_ge (w32 x1) rfl 16 dX5_ways_6 (by decide) (fun h10 => ?_) (fun h10 => ?_)
  · replace hf := it h10 hf
    refine j_iload_n dX5_ways_16 3 rfl ?_
    refine j_if_lt (w32 v3) rfl 25 dX5_ways_17 (by decide) (fun h8 => ?_) (fun h8 => ?_)
    · replace hf := it h8 hf
      refine j_bipush dX5_ways_25 (by decide) ?_
      replace hf := Option.some.inj hf
      subst hf
      exact j_ireturn (bM_mv G) ⟨Nat.le_refl 0, Nat.le_refl 0⟩ rfl dX5_ways_27
    · replace hf := ie h8 hf
      refine j_iload_n dX5_ways_20 3 rfl ?_
      refine j_iconst dX5_ways_21 ?_
      refine j_icmp_le (w32 v3) 1 rfl rfl 28 dX5_ways_22 (by decide) (fun h7 => ?_) (fun h7 => ?_)
      · replace hf := it h7 hf
        refine j_aload_n dX5_ways_28 0 rfl ?_
        refine j_aload_n dX5_ways_29 0 rfl ?_
        refine m_geta mf_72 rfl dX5_ways_30 ?_
        refine j_iload_n dX5_ways_33 1 rfl ?_
        obtain ⟨x2, hx2, hf⟩ := ob hf
        refine m_iald mr_72 hx2 dX5_ways_34 ?_
        refine j_iload_n dX5_ways_35 1 rfl ?_
        refine j_iload_n dX5_ways_36 2 rfl ?_
        obtain ⟨u3, hu3, hf⟩ := ob hf
        refine j_cVv [pI x2, pI v1, pI v2] [] kT_v (bM_mv G) (c5_takeDigits x2 v1 v2 u hu3) wv5_takeDigits dv5_takeDigits rfl ⟨(Nat.le_of_ble_eq_true rfl), (Nat.le_of_ble_eq_true rfl)⟩ (m_recv u) rfl (Nat.le_of_ble_eq_true rfl) dX5_ways_37 ⟨Nat.le_refl 0, Nat.le_refl 0⟩ ?_
        refine j_aload_n dX5_ways_40 0 rfl ?_
        refine j_aload_n dX5_ways_41 0 rfl ?_
        refine m_geta mf_72 rfl dX5_ways_42 ?_
        refine j_iload_n dX5_ways_45 1 rfl ?_
        obtain ⟨x4, hx4, hf⟩ := ob hf
        refine m_iald mr_72 hx4 dX5_ways_46 ?_
        obtain ⟨u5, hu5, hf⟩ := ob hf
        refine j_cVv [pI x4] [] kT_v (bM_mv G) (c5_countWays x4 u3 hu5) wv5_countWays dv5_countWays rfl ⟨(Nat.le_of_ble_eq_true rfl), (Nat.le_of_ble_eq_true rfl)⟩ (m_recv u3) rfl (Nat.le_of_ble_eq_true rfl) dX5_ways_47 ⟨Nat.le_refl 0, Nat.le_refl 0⟩ ?_
        refine j_aload_n dX5_ways_50 0 rfl ?_
        refine m_geta mf_78 rfl dX5_ways_51 ?_
        refine j_iload_n dX5_ways_54 3 rfl ?_
        obtain ⟨x6, hx6, hf⟩ := ob hf
        refine m_iald mr_78 hx6 dX5_ways_55 ?_
        replace hf := Option.some.inj hf
        subst hf
        exact j_ireturn (bM_mv G) ⟨Nat.le_refl 0, Nat.le_refl 0⟩ rfl dX5_ways_56
      · replace hf := ie h7 hf
        refine j_bipush dX5_ways_25 (by decide) ?_
        replace hf := Option.some.inj hf
        subst hf
        exact j_ireturn (bM_mv G) ⟨Nat.le_refl 0, Nat.le_refl 0⟩ rfl dX5_ways_27
  · replace hf := ie h10 hf
    refine j_aload_n dX5_ways_9 0 rfl ?_
    refine j_iload_n dX5_ways_10 1 rfl ?_
    refine j_iload_n dX5_ways_11 2 rfl ?_
    obtain ⟨x9, hx9, hf⟩ := ob hf
    refine j_cVr [pI v1, pI v2] [] kT_v (bM_mv G) (c5_noEvent v1 v2 u hx9) wv5_noEvent dv5_noEvent rfl ⟨(Nat.le_of_ble_eq_true rfl), (Nat.le_of_ble_eq_true rfl)⟩ (m_recv u) rfl (Nat.le_of_ble_eq_true rfl) dX5_ways_12 ⟨Nat.le_refl 0, Nat.le_refl 0⟩ ?_
    replace hf := Option.some.inj hf
    subst hf
    exact j_ireturn (bM_mv G) ⟨Nat.le_refl 0, Nat.le_refl 0⟩ rfl dX5_ways_15
theorem c5_nearest_b39 {G : MG} {l : Launch} {a : List PV} {r : Int} (v4 : Int) (u : Mu) (hf : m5_nearest_b39 v4 = some r) : J5 G l D5_nearest a (some (pL r)) u u 39 [(4, pL v4)] [] := by
  unfold m5_nearest_b39 at hf
  refine j_lload dX5_nearest_39 0 rfl ?_
  refine j_lconst (z := 1) dX5_nearest_41 rfl ?_
  refine j_ladd dX5_nearest_42 ?_
  refine j_goto 48 dX5_nearest_43 (by decide) ?_
  replace hf := Option.some.inj hf
  subst hf
  exact j_lreturn (bM_mv G) ⟨Nat.le_refl 0, Nat.le_refl 0⟩ rfl dX5_nearest_48
theorem c5_nearest {G : MG} {l : Launch} {r : Int} (v0 : Int) (v2 : Int) (u : Mu) (hf : m5_nearest v0 v2 = some r) : JM kT (bM G) (aM G) l yX5_nearest D5_nearest [pL v0, pL v2] u (some (pL r)) u 0 0 := by
  refine j_met (lv0 := [(0, pL v0), (2, pL v2)]) ⟨pl_X5, rfl, rfl, (Nat.le_of_ble_eq_true rfl), rfl⟩ ?_
  unfold m5_nearest at hf
  refine j_lload_n dX5_nearest_0 0 rfl ?_
  refine j_lload_n dX5_nearest_1 1 rfl ?_
  rcases Decidable.em (w64 v2 = 0) with h1 | h1
  · exact onn (it h1 hf)
  · replace hf := ie h1 hf
    refine j_ldiv dX5_nearest_2 h1 ?_
    refine j_lstore dX5_nearest_3 [(4, pL (div64 v0 v2)), (0, pL v0), (2, pL v2)] (Nat.le_of_ble_eq_true rfl) rfl ?_
    refine j_ldc2 (z := 2) q2550 (by decide) dX5_nearest_5 ?_
    refine j_lload_n dX5_nearest_8 1 rfl ?_
    refine j_lload_n dX5_nearest_9 2 rfl ?_
    rcases Decidable.em (w64 v2 = 0) with h2 | h2
    · exact onn (it h2 hf)
    · replace hf := ie h2 hf
      refine j_lrem dX5_nearest_10 h2 ?_
      refine j_lmul dX5_nearest_11 ?_
      refine j_lstore dX5_nearest_12 [(6, pL (2 * (rem64 v0 v2))), (4, pL (div64 v0 v2)), (0, pL v0), (2, pL v2)] (Nat.le_of_ble_eq_true rfl) rfl ?_
      refine j_lload dX5_nearest_14 0 rfl ?_
      refine j_lload_n dX5_nearest_16 3 rfl ?_
      refine j_lc_gt 39 dX5_nearest_17 dX5_nearest_18 (by decide) (fun h5 => ?_) (fun h5 => ?_)
      · replace hf := it h5 hf
        exact j_sub [1] _ rfl (c5_nearest_b39 (div64 v0 v2) u hf)
      · replace hf := ie h5 hf
        refine j_lload dX5_nearest_21 0 rfl ?_
        refine j_lload_n dX5_nearest_23 3 rfl ?_
        refine j_lc_ne 46 dX5_nearest_24 dX5_nearest_25 (by decide) (fun h4 => ?_) (fun h4 => ?_)
        · replace hf := ie h4 hf
          refine j_lload dX5_nearest_46 1 rfl ?_
          replace hf := Option.some.inj hf
          subst hf
          exact j_lreturn (bM_mv G) ⟨Nat.le_refl 0, Nat.le_refl 0⟩ rfl dX5_nearest_48
        · replace hf := it h4 hf
          refine j_lload dX5_nearest_28 1 rfl ?_
          refine j_ldc2 (z := 2) q2550 (by decide) dX5_nearest_30 ?_
          refine j_lrem dX5_nearest_33 (by decide) ?_
          refine j_lconst (z := 1) dX5_nearest_34 rfl ?_
          refine j_lc_ne 46 dX5_nearest_35 dX5_nearest_36 (by decide) (fun h3 => ?_) (fun h3 => ?_)
          · replace hf := ie h3 hf
            refine j_lload dX5_nearest_46 1 rfl ?_
            replace hf := Option.some.inj hf
            subst hf
            exact j_lreturn (bM_mv G) ⟨Nat.le_refl 0, Nat.le_refl 0⟩ rfl dX5_nearest_48
          · replace hf := it h3 hf
            exact j_sub [1] _ rfl (c5_nearest_b39 (div64 v0 v2) u hf)
theorem c5_rowHolds_l43 {G : MG} {l : Launch} {a : List PV} {r : Int × Mu} {Kf : Mu → Option (Int × Mu)} (v1 : Int) (v3 : Int) (v4 : Int) (hK0 : ∀ q : Mu, Kf q = some r → J5 G l D5_rowHolds a (some (pI r.1)) r.2 q 91 [(0, pR (some G.1)), (1, pI v1), (3, pI v3), (4, pI v4)] []) : ∀ (n : Nat) (v6 : Int) (u : Mu), ((m5_rowHolds_l43 v1 v3 v4 n v6 u).bind Kf = some r) → J5 G l D5_rowHolds a (some (pI r.1)) r.2 u 43 [(0, pR (some G.1)), (1, pI v1), (3, pI v3), (4, pI v4), (6, pI v6)] [] := by
  intro n
  induction n with
  | zero => intro v6 u hf; exact onb hf
  | succ n ih =>
    intro v6 u hf
    unfold m5_rowHolds_l43 at hf
    refine j_iload dX5_rowHolds_43 4 rfl ?_
    refine j_aload_n dX5_rowHolds_45 0 rfl ?_
    refine m_geta mf_12 rfl dX5_rowHolds_46 ?_
    refine j_iload_n dX5_rowHolds_49 1 rfl ?_
    obtain ⟨x1, hx1, hf⟩ := obb hf
    refine m_iald mr_12 hx1 dX5_rowHolds_50 ?_
    refine j_icmp_ge (w32 v6) (w32 x1) rfl rfl 91 dX5_rowHolds_51 (by decide) (fun h5 => ?_) (fun h5 => ?_)
    · replace hf := itb h5 hf
      exact j_sub [0, 1, 2, 3] _ rfl (hK0 u hf)
    · replace hf := ieb h5 hf
      refine j_aload_n dX5_rowHolds_54 0 rfl ?_
      refine m_geta mf_59 rfl dX5_rowHolds_55 ?_
      refine j_iload dX5_rowHolds_58 4 rfl ?_
      refine j_aload_n dX5_rowHolds_60 0 rfl ?_
      refine m_geta mf_38 rfl dX5_rowHolds_61 ?_
      refine j_sipush dX5_rowHolds_64 (by decide) ?_
      refine j_bipush dX5_rowHolds_67 (by decide) ?_
      refine j_iload_n dX5_rowHolds_69 1 rfl ?_
      refine j_imul dX5_rowHolds_70 ?_
      refine j_iload dX5_rowHolds_71 4 rfl ?_
      refine j_iadd dX5_rowHolds_73 ?_
      refine j_imul dX5_rowHolds_74 ?_
      refine j_aload_n dX5_rowHolds_75 0 rfl ?_
      refine m_geta mf_77 rfl dX5_rowHolds_76 ?_
      refine j_iload dX5_rowHolds_79 4 rfl ?_
      obtain ⟨x2, hx2, hf⟩ := obb hf
      refine m_iald mr_77 hx2 dX5_rowHolds_81 ?_
      refine j_iadd dX5_rowHolds_82 ?_
      obtain ⟨x3, hx3, hf⟩ := obb hf
      refine m_iald mr_38 hx3 dX5_rowHolds_83 ?_
      obtain ⟨u4, hu4, hf⟩ := obb hf
      refine m_iast mr_59 hu4 dX5_rowHolds_84 ?_
      refine j_iinc dX5_rowHolds_85 4 rfl [(6, pI (v6 + 1)), (0, pR (some G.1)), (1, pI v1), (3, pI v3), (4, pI v4)] (Nat.le_of_ble_eq_true rfl) rfl ?_
      refine j_goto 43 dX5_rowHolds_88 (by decide) ?_
      exact j_sub [1, 2, 3, 4, 0] _ rfl (ih (v6 + 1) u4 hf)
theorem c5_rowHolds_b137 {G : MG} {l : Launch} {a : List PV} {r : Int × Mu} {Kf : (Mu) ⊕ (Int × Mu) → Option (Int × Mu)} {v1 : Int} {v3 : Int} (kh : Int → Int → Mu → Option ((Mu) ⊕ (Int × Mu))) (hkh : ∀ (z4 : Int) (z5 : Int) (zu : Mu), ((kh z4 z5 zu).bind Kf = some r) → J5 G l D5_rowHolds a (some (pI r.1)) r.2 zu 35 [(0, pR (some G.1)), (1, pI v1), (3, pI v3), (4, pI z4), (5, pI z5)] []) (hK0 : ∀ q : Mu, Kf (.inl q) = some r → J5 G l D5_rowHolds a (some (pI r.1)) r.2 q 135 [] []) (hK1 : ∀ q : Int × Mu, Kf (.inr q) = some r → J5 G l D5_rowHolds a (some (pI r.1)) r.2 q.2 151 [(4, pI q.1)] []) (v6 : Int) (u : Mu) (hf : (m5_rowHolds_b137 kh v1 v3 v6 u).bind Kf = some r) : J5 G l D5_rowHolds a (some (pI r.1)) r.2 u 137 [(0, pR (some G.1)), (1, pI v1), (3, pI v3), (6, pI v6)] [] := by
  unfold m5_rowHolds_b137 at hf
  refine j_iload dX5_rowHolds_137 3 rfl ?_
  refine j_istore dX5_rowHolds_139 [(4, pI v6), (0, pR (some G.1)), (1, pI v1), (3, pI v3), (6, pI v6)] (Nat.le_of_ble_eq_true rfl) rfl ?_
  refine j_aload_n dX5_rowHolds_141 1 rfl ?_
  refine j_iload_n dX5_rowHolds_142 2 rfl ?_
  obtain ⟨q1, hq1, hf⟩ := obb hf
  refine j_cVr [pI v1] [] kT_v (bM_mv G) (c5_nextWay v1 u hq1) wv5_nextWay dv5_nextWay rfl ⟨(Nat.le_of_ble_eq_true rfl), (Nat.le_of_ble_eq_true rfl)⟩ (m_recv u) rfl (Nat.le_of_ble_eq_true rfl) dX5_rowHolds_143 ⟨Nat.le_refl 0, Nat.le_refl 0⟩ ?_
  refine j_istore dX5_rowHolds_146 [(5, pI q1.1), (4, pI v6), (0, pR (some G.1)), (1, pI v1), (3, pI v3), (6, pI v6)] (Nat.le_of_ble_eq_true rfl) rfl ?_
  refine j_goto 35 dX5_rowHolds_148 (by decide) ?_
  exact j_sub [2, 3, 4, 1, 0] _ rfl (hkh v6 q1.1 q1.2 hf)
theorem c5_rowHolds_b121 {G : MG} {l : Launch} {a : List PV} {r : Int × Mu} {Kf : (Mu) ⊕ (Int × Mu) → Option (Int × Mu)} {v1 : Int} {v3 : Int} (kh : Int → Int → Mu → Option ((Mu) ⊕ (Int × Mu))) (hkh : ∀ (z4 : Int) (z5 : Int) (zu : Mu), ((kh z4 z5 zu).bind Kf = some r) → J5 G l D5_rowHolds a (some (pI r.1)) r.2 zu 35 [(0, pR (some G.1)), (1, pI v1), (3, pI v3), (4, pI z4), (5, pI z5)] []) (hK0 : ∀ q : Mu, Kf (.inl q) = some r → J5 G l D5_rowHolds a (some (pI r.1)) r.2 q 135 [] []) (hK1 : ∀ q : Int × Mu, Kf (.inr q) = some r → J5 G l D5_rowHolds a (some (pI r.1)) r.2 q.2 151 [(4, pI q.1)] []) (v4 : Int) (s0 : Int) (u : Mu) (hf : (m5_rowHolds_b121 kh v1 v3 v4 s0 u).bind Kf = some r) : J5 G l D5_rowHolds a (some (pI r.1)) r.2 u 121 [(0, pR (some G.1)), (1, pI v1), (3, pI v3), (4, pI v4)] [pI s0] := by
  unfold m5_rowHolds_b121 at hf
  refine j_istore dX5_rowHolds_121 [(6, pI s0), (0, pR (some G.1)), (1, pI v1), (3, pI v3), (4, pI v4)] (Nat.le_of_ble_eq_true rfl) rfl ?_
  refine j_iload dX5_rowHolds_123 4 rfl ?_
  refine j_if_lt (w32 v4) rfl 137 dX5_rowHolds_125 (by decide) (fun h2 => ?_) (fun h2 => ?_)
  · replace hf := itb h2 hf
    exact j_sub [1, 2, 3, 0] _ rfl (c5_rowHolds_b137 (kh) hkh hK0 hK1 s0 u hf)
  · replace hf := ieb h2 hf
    refine j_iload dX5_rowHolds_128 4 rfl ?_
    refine j_iload dX5_rowHolds_130 0 rfl ?_
    refine j_icmp_eq (w32 v4) (w32 s0) rfl rfl 137 dX5_rowHolds_132 (by decide) (fun h1 => ?_) (fun h1 => ?_)
    · replace hf := itb h1 hf
      exact j_sub [1, 2, 3, 0] _ rfl (c5_rowHolds_b137 (kh) hkh hK0 hK1 s0 u hf)
    · replace hf := ieb h1 hf
      exact j_sub [] _ rfl (hK0 u hf)
theorem c5_rowHolds_l35 {G : MG} {l : Launch} {a : List PV} {r : Int × Mu} {Kf : (Mu) ⊕ (Int × Mu) → Option (Int × Mu)} (v1 : Int) (v3 : Int) (hK0 : ∀ q : Mu, Kf (.inl q) = some r → J5 G l D5_rowHolds a (some (pI r.1)) r.2 q 135 [] []) (hK1 : ∀ q : Int × Mu, Kf (.inr q) = some r → J5 G l D5_rowHolds a (some (pI r.1)) r.2 q.2 151 [(4, pI q.1)] []) : ∀ (n : Nat) (v4 : Int) (v5 : Int) (u : Mu), ((m5_rowHolds_l35 v1 v3 n v4 v5 u).bind Kf = some r) → J5 G l D5_rowHolds a (some (pI r.1)) r.2 u 35 [(0, pR (some G.1)), (1, pI v1), (3, pI v3), (4, pI v4), (5, pI v5)] [] := by
  intro n
  induction n with
  | zero => intro v4 v5 u hf; exact onb hf
  | succ n ih =>
    intro v4 v5 u hf
    unfold m5_rowHolds_l35 at hf
    refine j_iload dX5_rowHolds_35 4 rfl ?_
    refine j_if_eq (w32 v5) rfl 151 dX5_rowHolds_37 (by decide) (fun h7 => ?_) (fun h7 => ?_)
    · replace hf := itb h7 hf
      exact j_sub [3] _ rfl (hK1 (v4, u) hf)
    · replace hf := ieb h7 hf
      refine j_iconst dX5_rowHolds_40 ?_
      refine j_istore dX5_rowHolds_41 [(6, pI 0), (0, pR (some G.1)), (1, pI v1), (3, pI v3), (4, pI v4), (5, pI v5)] (Nat.le_of_ble_eq_true rfl) rfl ?_
      replace hf := oba hf
      refine j_sub [1, 2, 3, 4, 0] _ rfl (c5_rowHolds_l43 v1 v3 v4 ?_ NN 0 u hf)
      · intro q1 hf
        refine j_aload_n dX5_rowHolds_91 0 rfl ?_
        refine j_iload_n dX5_rowHolds_92 1 rfl ?_
        obtain ⟨u2, hu2, hf⟩ := obb hf
        refine j_cVv [pI v1] [] kT_v (bM_mv G) (c5_findMeant v1 q1 hu2) wv5_findMeant dv5_findMeant rfl ⟨(Nat.le_of_ble_eq_true rfl), (Nat.le_of_ble_eq_true rfl)⟩ (m_recv q1) rfl (Nat.le_of_ble_eq_true rfl) dX5_rowHolds_93 ⟨Nat.le_refl 0, Nat.le_refl 0⟩ ?_
        refine j_aload_n dX5_rowHolds_96 0 rfl ?_
        refine j_iload_n dX5_rowHolds_97 1 rfl ?_
        refine j_aload_n dX5_rowHolds_98 0 rfl ?_
        refine m_geta mf_30 rfl dX5_rowHolds_99 ?_
        refine j_iload_n dX5_rowHolds_102 2 rfl ?_
        obtain ⟨x3, hx3, hf⟩ := obb hf
        refine m_iald mr_30 hx3 dX5_rowHolds_103 ?_
        refine j_aload_n dX5_rowHolds_104 0 rfl ?_
        refine m_geta mf_31 rfl dX5_rowHolds_105 ?_
        refine j_iload_n dX5_rowHolds_108 2 rfl ?_
        obtain ⟨x4, hx4, hf⟩ := obb hf
        refine m_iald mr_31 hx4 dX5_rowHolds_109 ?_
        obtain ⟨q5, hq5, hf⟩ := obb hf
        refine j_cVr [pI v1, pI x3, pI x4] [] kT_v (bM_mv G) (c5_isTrue v1 x3 x4 u2 hq5) wv5_isTrue dv5_isTrue rfl ⟨(Nat.le_of_ble_eq_true rfl), (Nat.le_of_ble_eq_true rfl)⟩ (m_recv u2) rfl (Nat.le_of_ble_eq_true rfl) dX5_rowHolds_110 ⟨Nat.le_refl 0, Nat.le_refl 0⟩ ?_
        refine j_if_eq (w32 q5.1) rfl 120 dX5_rowHolds_113 (by decide) (fun h6 => ?_) (fun h6 => ?_)
        · replace hf := itb h6 hf
          refine j_iconst dX5_rowHolds_120 ?_
          exact j_sub [0, 1, 2, 3] _ rfl (c5_rowHolds_b121 (m5_rowHolds_l35 v1 v3 n) ih hK0 hK1 v4 0 q5.2 hf)
        · replace hf := ieb h6 hf
          refine j_iconst dX5_rowHolds_116 ?_
          refine j_goto 121 dX5_rowHolds_117 (by decide) ?_
          exact j_sub [0, 1, 2, 3] _ rfl (c5_rowHolds_b121 (m5_rowHolds_l35 v1 v3 n) ih hK0 hK1 v4 1 q5.2 hf)
theorem c5_rowHolds {G : MG} {l : Launch} {r : Int × Mu} (v1 : Int) (v2 : Int) (u : Mu) (hf : m5_rowHolds v1 v2 u = some r) : JM kT (bM G) (aM G) l yX5_rowHolds D5_rowHolds [pR (some G.1), pI v1, pI v2] u (some (pI r.1)) r.2 0 0 := by
  refine j_met (lv0 := [(0, pR (some G.1)), (1, pI v1), (2, pI v2)]) ⟨pl_X5, rfl, rfl, (Nat.le_of_ble_eq_true rfl), rfl⟩ ?_
  unfold m5_rowHolds at hf
  refine j_bipush dX5_rowHolds_0 (by decide) ?_
  refine j_iload_n dX5_rowHolds_2 1 rfl ?_
  refine j_imul dX5_rowHolds_3 ?_
  refine j_iload_n dX5_rowHolds_4 2 rfl ?_
  refine j_iadd dX5_rowHolds_5 ?_
  refine j_istore_n dX5_rowHolds_6 [(3, pI ((24 * v1) + v2)), (0, pR (some G.1)), (1, pI v1), (2, pI v2)] (Nat.le_of_ble_eq_true rfl) rfl ?_
  refine j_aload_n dX5_rowHolds_7 1 rfl ?_
  refine m_geta mf_30 rfl dX5_rowHolds_8 ?_
  refine j_iload_n dX5_rowHolds_11 0 rfl ?_
  obtain ⟨x1, hx1, hf⟩ := ob hf
  refine m_iald mr_30 hx1 dX5_rowHolds_12 ?_
  refine j_aload_n dX5_rowHolds_13 1 rfl ?_
  refine m_geta mf_31 rfl dX5_rowHolds_14 ?_
  refine j_iload_n dX5_rowHolds_17 0 rfl ?_
  obtain ⟨x2, hx2, hf⟩ := ob hf
  refine m_iald mr_31 hx2 dX5_rowHolds_18 ?_
  refine j_icmp_ne (w32 x1) (w32 x2) rfl rfl 24 dX5_rowHolds_19 (by decide) (fun h6 => ?_) (fun h6 => ?_)
  · replace hf := ie h6 hf
    refine j_aload_n dX5_rowHolds_24 1 rfl ?_
    refine j_iload_n dX5_rowHolds_25 2 rfl ?_
    obtain ⟨u3, hu3, hf⟩ := ob hf
    refine j_cVv [pI v1] [] kT_v (bM_mv G) (c5_firstWay v1 u hu3) wv5_firstWay dv5_firstWay rfl ⟨(Nat.le_of_ble_eq_true rfl), (Nat.le_of_ble_eq_true rfl)⟩ (m_recv u) rfl (Nat.le_of_ble_eq_true rfl) dX5_rowHolds_26 ⟨Nat.le_refl 0, Nat.le_refl 0⟩ ?_
    refine j_iconst dX5_rowHolds_29 ?_
    refine j_istore dX5_rowHolds_30 [(4, pI (-1)), (3, pI ((24 * v1) + v2)), (0, pR (some G.1)), (1, pI v1), (2, pI v2)] (Nat.le_of_ble_eq_true rfl) rfl ?_
    refine j_iconst dX5_rowHolds_32 ?_
    refine j_istore dX5_rowHolds_33 [(5, pI 1), (4, pI (-1)), (3, pI ((24 * v1) + v2)), (0, pR (some G.1)), (1, pI v1), (2, pI v2)] (Nat.le_of_ble_eq_true rfl) rfl ?_
    refine j_sub [3, 4, 2, 1, 0] _ rfl (c5_rowHolds_l35 v1 ((24 * v1) + v2) ?_ ?_ NN (-1) 1 u3 hf)
    · intro q4 hf
      simp only [Sum.elim_inl, Sum.elim_inr] at hf
      refine j_iconst dX5_rowHolds_135 ?_
      replace hf := Option.some.inj hf
      subst hf
      exact j_ireturn (bM_mv G) ⟨Nat.le_refl 0, Nat.le_refl 0⟩ rfl dX5_rowHolds_136
    · intro q5 hf
      simp only [Sum.elim_inl, Sum.elim_inr] at hf
      refine j_iload dX5_rowHolds_151 0 rfl ?_
      replace hf := Option.some.inj hf
      subst hf
      exact j_ireturn (bM_mv G) ⟨Nat.le_refl 0, Nat.le_refl 0⟩ rfl dX5_rowHolds_153
  · replace hf := it h6 hf
    refine j_iconst dX5_rowHolds_22 ?_
    replace hf := Option.some.inj hf
    subst hf
    exact j_ireturn (bM_mv G) ⟨Nat.le_refl 0, Nat.le_refl 0⟩ rfl dX5_rowHolds_23
theorem c5_price_b122 {G : MG} {l : Launch} {a : List PV} {r : Int × Mu} {Kf : (Int × Mu) ⊕ (Mu) ⊕ (Int × Int × Mu) → Option (Int × Mu)} {v3 : Int} (kh : Int → Int → Int → Mu → Option ((Int × Mu) ⊕ (Mu) ⊕ (Int × Int × Mu))) (hkh : ∀ (z4 : Int) (z6 : Int) (z8 : Int) (zu : Mu), ((kh z4 z6 z8 zu).bind Kf = some r) → J5 G l D5_price a (some (pI r.1)) r.2 zu 39 [(0, pR (some G.1)), (3, pI v3), (4, pL z4), (6, pL z6), (8, pI z8)] []) (hK0 : ∀ q : Int × Mu, Kf (.inl q) = some r → J5 G l D5_price a (some (pI r.1)) r.2 q.2 74 [(8, pI q.1)] []) (hK1 : ∀ q : Mu, Kf (.inr (.inl q)) = some r → J5 G l D5_price a (some (pI r.1)) r.2 q 204 [] []) (hK2 : ∀ q : Int × Int × Mu, Kf (.inr (.inr q)) = some r → J5 G l D5_price a (some (pI r.1)) r.2 q.2.2 231 [(4, pL q.1), (6, pL q.2.1)] []) (v4 : Int) (v6 : Int) (v8 : Int) (v11 : Int) (u : Mu) (hf : (m5_price_b122 kh v3 v4 v6 v8 v11 u).bind Kf = some r) : J5 G l D5_price a (some (pI r.1)) r.2 u 122 [(0, pR (some G.1)), (3, pI v3), (4, pL v4), (6, pL v6), (8, pI v8), (11, pL v11)] [] := by
  unfold m5_price_b122 at hf
  refine j_lload dX5_price_122 2 rfl ?_
  refine j_lload dX5_price_124 5 rfl ?_
  refine j_lload dX5_price_126 3 rfl ?_
  refine j_lmul dX5_price_128 ?_
  refine j_ladd dX5_price_129 ?_
  refine j_lstore dX5_price_130 [(4, pL (v4 + (v11 * v6))), (0, pR (some G.1)), (3, pI v3), (6, pL v6), (8, pI v8), (11, pL v11)] (Nat.le_of_ble_eq_true rfl) rfl ?_
  refine j_goto 225 dX5_price_132 (by decide) ?_
  refine j_iinc dX5_price_225 4 rfl [(8, pI (v8 + 1)), (4, pL (v4 + (v11 * v6))), (0, pR (some G.1)), (3, pI v3), (6, pL v6), (11, pL v11)] (Nat.le_of_ble_eq_true rfl) rfl ?_
  refine j_goto 39 dX5_price_228 (by decide) ?_
  exact j_sub [2, 3, 1, 4, 0] _ rfl (hkh (v4 + (v11 * v6)) v6 (v8 + 1) u hf)
theorem c5_price_l39 {G : MG} {l : Launch} {a : List PV} {r : Int × Mu} {Kf : (Int × Mu) ⊕ (Mu) ⊕ (Int × Int × Mu) → Option (Int × Mu)} (v3 : Int) (hK0 : ∀ q : Int × Mu, Kf (.inl q) = some r → J5 G l D5_price a (some (pI r.1)) r.2 q.2 74 [(8, pI q.1)] []) (hK1 : ∀ q : Mu, Kf (.inr (.inl q)) = some r → J5 G l D5_price a (some (pI r.1)) r.2 q 204 [] []) (hK2 : ∀ q : Int × Int × Mu, Kf (.inr (.inr q)) = some r → J5 G l D5_price a (some (pI r.1)) r.2 q.2.2 231 [(4, pL q.1), (6, pL q.2.1)] []) : ∀ (n : Nat) (v4 : Int) (v6 : Int) (v8 : Int) (u : Mu), ((m5_price_l39 v3 n v4 v6 v8 u).bind Kf = some r) → J5 G l D5_price a (some (pI r.1)) r.2 u 39 [(0, pR (some G.1)), (3, pI v3), (4, pL v4), (6, pL v6), (8, pI v8)] [] := by
  intro n
  induction n with
  | zero => intro v4 v6 v8 u hf; exact onb hf
  | succ n ih =>
    intro v4 v6 v8 u hf
    unfold m5_price_l39 at hf
    refine j_iload dX5_price_39 4 rfl ?_
    refine j_aload_n dX5_price_41 0 rfl ?_
    refine m_geta mf_27 rfl dX5_price_42 ?_
    refine j_iload_n dX5_price_45 1 rfl ?_
    obtain ⟨x1, hx1, hf⟩ := obb hf
    refine m_iald mr_27 hx1 dX5_price_46 ?_
    refine j_icmp_ge (w32 v8) (w32 x1) rfl rfl 231 dX5_price_47 (by decide) (fun h17 => ?_) (fun h17 => ?_)
    · replace hf := itb h17 hf
      exact j_sub [2, 3] _ rfl (hK2 (v4, v6, u) hf)
    · replace hf := ieb h17 hf
      refine j_bipush dX5_price_50 (by decide) ?_
      refine j_iload_n dX5_price_52 1 rfl ?_
      refine j_imul dX5_price_53 ?_
      refine j_iload dX5_price_54 4 rfl ?_
      refine j_iadd dX5_price_56 ?_
      refine j_istore dX5_price_57 [(9, pI ((24 * v3) + v8)), (0, pR (some G.1)), (3, pI v3), (4, pL v4), (6, pL v6), (8, pI v8)] (Nat.le_of_ble_eq_true rfl) rfl ?_
      refine j_aload_n dX5_price_59 1 rfl ?_
      refine j_iload_n dX5_price_60 2 rfl ?_
      refine j_iload dX5_price_61 5 rfl ?_
      obtain ⟨q2, hq2, hf⟩ := obb hf
      refine j_cVr [pI v3, pI v8] [] kT_v (bM_mv G) (c5_rowHolds v3 v8 u hq2) wv5_rowHolds dv5_rowHolds rfl ⟨(Nat.le_of_ble_eq_true rfl), (Nat.le_of_ble_eq_true rfl)⟩ (m_recv u) rfl (Nat.le_of_ble_eq_true rfl) dX5_price_63 ⟨Nat.le_refl 0, Nat.le_refl 0⟩ ?_
      refine j_istore dX5_price_66 [(10, pI q2.1), (9, pI ((24 * v3) + v8)), (0, pR (some G.1)), (3, pI v3), (4, pL v4), (6, pL v6), (8, pI v8)] (Nat.le_of_ble_eq_true rfl) rfl ?_
      refine j_iload dX5_price_68 0 rfl ?_
      refine j_iconst dX5_price_70 ?_
      refine j_icmp_ne (w32 q2.1) 2 rfl rfl 80 dX5_price_71 (by decide) (fun h16 => ?_) (fun h16 => ?_)
      · replace hf := ieb h16 hf
        refine j_iload dX5_price_80 0 rfl ?_
        refine j_if_ne (w32 q2.1) rfl 88 dX5_price_82 (by decide) (fun h15 => ?_) (fun h15 => ?_)
        · replace hf := ieb h15 hf
          refine j_aload_n dX5_price_88 2 rfl ?_
          refine m_geta mf_29 rfl dX5_price_89 ?_
          refine j_iload dX5_price_92 1 rfl ?_
          obtain ⟨x3, hx3, hf⟩ := obb hf
          refine m_iald mr_29 hx3 dX5_price_94 ?_
          refine j_i2l dX5_price_95 ?_
          refine j_lstore dX5_price_96 [(11, pL (w32 x3)), (10, pI q2.1), (9, pI ((24 * v3) + v8)), (0, pR (some G.1)), (3, pI v3), (4, pL v4), (6, pL v6), (8, pI v8)] (Nat.le_of_ble_eq_true rfl) rfl ?_
          refine j_aload_n dX5_price_98 3 rfl ?_
          refine m_geta mf_28 rfl dX5_price_99 ?_
          refine j_iload dX5_price_102 2 rfl ?_
          obtain ⟨x4, hx4, hf⟩ := obb hf
          refine m_iald mr_28 hx4 dX5_price_104 ?_
          refine j_bipush dX5_price_105 (by decide) ?_
          refine j_icmp_eq (w32 x4) 15 rfl rfl 122 dX5_price_107 (by decide) (fun h14 => ?_) (fun h14 => ?_)
          · replace hf := itb h14 hf
            exact j_sub [3, 4, 5, 6, 7, 0] _ rfl (c5_price_b122 (m5_price_l39 v3 n) ih hK0 hK1 hK2 v4 v6 v8 (w32 x3) q2.2 hf)
          · replace hf := ieb h14 hf
            refine j_aload_n dX5_price_110 3 rfl ?_
            refine m_geta mf_28 rfl dX5_price_111 ?_
            refine j_iload dX5_price_114 2 rfl ?_
            obtain ⟨x5, hx5, hf⟩ := obb hf
            refine m_iald mr_28 hx5 dX5_price_116 ?_
            refine j_bipush dX5_price_117 (by decide) ?_
            refine j_icmp_ne (w32 x5) 17 rfl rfl 135 dX5_price_119 (by decide) (fun h13 => ?_) (fun h13 => ?_)
            · replace hf := ieb h13 hf
              refine j_aload_n dX5_price_135 3 rfl ?_
              refine m_geta mf_28 rfl dX5_price_136 ?_
              refine j_iload dX5_price_139 2 rfl ?_
              obtain ⟨x6, hx6, hf⟩ := obb hf
              refine m_iald mr_28 hx6 dX5_price_141 ?_
              refine j_bipush dX5_price_142 (by decide) ?_
              refine j_icmp_ne (w32 x6) 16 rfl rfl 165 dX5_price_144 (by decide) (fun h12 => ?_) (fun h12 => ?_)
              · replace hf := ieb h12 hf
                refine j_aload_n dX5_price_165 3 rfl ?_
                refine m_geta mf_28 rfl dX5_price_166 ?_
                refine j_iload dX5_price_169 2 rfl ?_
                obtain ⟨x7, hx7, hf⟩ := obb hf
                refine m_iald mr_28 hx7 dX5_price_171 ?_
                refine j_bipush dX5_price_172 (by decide) ?_
                refine j_icmp_ne (w32 x7) 18 rfl rfl 207 dX5_price_174 (by decide) (fun h11 => ?_) (fun h11 => ?_)
                · replace hf := ieb h11 hf
                  refine j_lload dX5_price_207 5 rfl ?_
                  refine j_lload dX5_price_209 0 rfl ?_
                  refine j_lload dX5_price_211 6 rfl ?_
                  refine j_lmul dX5_price_213 ?_
                  refine j_lc_ge 225 dX5_price_214 dX5_price_215 (by decide) (fun h8 => ?_) (fun h8 => ?_)
                  · replace hf := itb h8 hf
                    refine j_iinc dX5_price_225 7 rfl [(8, pI (v8 + 1)), (11, pL (w32 x3)), (10, pI q2.1), (9, pI ((24 * v3) + v8)), (0, pR (some G.1)), (3, pI v3), (4, pL v4), (6, pL v6)] (Nat.le_of_ble_eq_true rfl) rfl ?_
                    refine j_goto 39 dX5_price_228 (by decide) ?_
                    exact j_sub [4, 5, 6, 7, 0] _ rfl (ih v4 v6 (v8 + 1) q2.2 hf)
                  · replace hf := ieb h8 hf
                    refine j_lload dX5_price_218 0 rfl ?_
                    refine j_lload dX5_price_220 6 rfl ?_
                    refine j_lmul dX5_price_222 ?_
                    refine j_lstore dX5_price_223 [(4, pL ((w32 x3) * v6)), (11, pL (w32 x3)), (10, pI q2.1), (9, pI ((24 * v3) + v8)), (0, pR (some G.1)), (3, pI v3), (6, pL v6), (8, pI v8)] (Nat.le_of_ble_eq_true rfl) rfl ?_
                    refine j_iinc dX5_price_225 7 rfl [(8, pI (v8 + 1)), (4, pL ((w32 x3) * v6)), (11, pL (w32 x3)), (10, pI q2.1), (9, pI ((24 * v3) + v8)), (0, pR (some G.1)), (3, pI v3), (6, pL v6)] (Nat.le_of_ble_eq_true rfl) rfl ?_
                    refine j_goto 39 dX5_price_228 (by decide) ?_
                    exact j_sub [5, 6, 1, 7, 0] _ rfl (ih ((w32 x3) * v6) v6 (v8 + 1) q2.2 hf)
                · replace hf := itb h11 hf
                  refine j_lload dX5_price_177 5 rfl ?_
                  refine j_lload dX5_price_179 0 rfl ?_
                  refine j_lload dX5_price_181 6 rfl ?_
                  refine j_lmul dX5_price_183 ?_
                  obtain ⟨x9, hx9, hf⟩ := obb hf
                  refine j_cSr [pL v4, pL ((w32 x3) * v6)] [] kT_v (bM_mv G) (c5_nearest v4 ((w32 x3) * v6) q2.2 hx9) wv5_nearest dv5_nearest rfl ⟨(Nat.le_of_ble_eq_true rfl), (Nat.le_of_ble_eq_true rfl)⟩ rfl (Nat.le_of_ble_eq_true rfl) dX5_price_184 ⟨Nat.le_refl 0, Nat.le_refl 0⟩ ?_
                  refine j_lload dX5_price_187 0 rfl ?_
                  refine j_lmul dX5_price_189 ?_
                  refine j_lstore dX5_price_190 [(4, pL (x9 * (w32 x3))), (11, pL (w32 x3)), (10, pI q2.1), (9, pI ((24 * v3) + v8)), (0, pR (some G.1)), (3, pI v3), (6, pL v6), (8, pI v8)] (Nat.le_of_ble_eq_true rfl) rfl ?_
                  refine j_lconst (z := 1) dX5_price_192 rfl ?_
                  refine j_lstore dX5_price_193 [(6, pL 1), (4, pL (x9 * (w32 x3))), (11, pL (w32 x3)), (10, pI q2.1), (9, pI ((24 * v3) + v8)), (0, pR (some G.1)), (3, pI v3), (8, pI v8)] (Nat.le_of_ble_eq_true rfl) rfl ?_
                  refine j_lload dX5_price_195 1 rfl ?_
                  refine j_ldc2 (z := 99999999) q2551 (by decide) dX5_price_197 ?_
                  refine j_lc_le 225 dX5_price_200 dX5_price_201 (by decide) (fun h10 => ?_) (fun h10 => ?_)
                  · replace hf := itb h10 hf
                    refine j_iinc dX5_price_225 7 rfl [(8, pI (v8 + 1)), (6, pL 1), (4, pL (x9 * (w32 x3))), (11, pL (w32 x3)), (10, pI q2.1), (9, pI ((24 * v3) + v8)), (0, pR (some G.1)), (3, pI v3)] (Nat.le_of_ble_eq_true rfl) rfl ?_
                    refine j_goto 39 dX5_price_228 (by decide) ?_
                    exact j_sub [6, 7, 2, 1, 0] _ rfl (ih (x9 * (w32 x3)) 1 (v8 + 1) q2.2 hf)
                  · replace hf := ieb h10 hf
                    exact j_sub [] _ rfl (hK1 q2.2 hf)
              · replace hf := itb h12 hf
                refine j_lload dX5_price_147 5 rfl ?_
                refine j_lload dX5_price_149 0 rfl ?_
                refine j_lmul dX5_price_151 ?_
                refine j_lstore dX5_price_152 [(4, pL (v4 * (w32 x3))), (11, pL (w32 x3)), (10, pI q2.1), (9, pI ((24 * v3) + v8)), (0, pR (some G.1)), (3, pI v3), (6, pL v6), (8, pI v8)] (Nat.le_of_ble_eq_true rfl) rfl ?_
                refine j_lload dX5_price_154 6 rfl ?_
                refine j_ldc2 (z := 1000) q2546 (by decide) dX5_price_156 ?_
                refine j_lmul dX5_price_159 ?_
                refine j_lstore dX5_price_160 [(6, pL (v6 * 1000)), (4, pL (v4 * (w32 x3))), (11, pL (w32 x3)), (10, pI q2.1), (9, pI ((24 * v3) + v8)), (0, pR (some G.1)), (3, pI v3), (8, pI v8)] (Nat.le_of_ble_eq_true rfl) rfl ?_
                refine j_goto 225 dX5_price_162 (by decide) ?_
                refine j_iinc dX5_price_225 7 rfl [(8, pI (v8 + 1)), (6, pL (v6 * 1000)), (4, pL (v4 * (w32 x3))), (11, pL (w32 x3)), (10, pI q2.1), (9, pI ((24 * v3) + v8)), (0, pR (some G.1)), (3, pI v3)] (Nat.le_of_ble_eq_true rfl) rfl ?_
                refine j_goto 39 dX5_price_228 (by decide) ?_
                exact j_sub [6, 7, 2, 1, 0] _ rfl (ih (v4 * (w32 x3)) (v6 * 1000) (v8 + 1) q2.2 hf)
            · replace hf := itb h13 hf
              exact j_sub [3, 4, 5, 6, 7, 0] _ rfl (c5_price_b122 (m5_price_l39 v3 n) ih hK0 hK1 hK2 v4 v6 v8 (w32 x3) q2.2 hf)
        · replace hf := itb h15 hf
          refine j_goto 225 dX5_price_85 (by decide) ?_
          refine j_iinc dX5_price_225 6 rfl [(8, pI (v8 + 1)), (10, pI q2.1), (9, pI ((24 * v3) + v8)), (0, pR (some G.1)), (3, pI v3), (4, pL v4), (6, pL v6)] (Nat.le_of_ble_eq_true rfl) rfl ?_
          refine j_goto 39 dX5_price_228 (by decide) ?_
          exact j_sub [3, 4, 5, 6, 0] _ rfl (ih v4 v6 (v8 + 1) q2.2 hf)
      · replace hf := itb h16 hf
        exact j_sub [6] _ rfl (hK0 (v8, q2.2) hf)
theorem c5_price {G : MG} {l : Launch} {r : Int × Mu} (v1 : Int) (v2 : Int) (u : Mu) (hf : m5_price v1 v2 u = some r) : JM kT (bM G) (aM G) l yX5_price D5_price [pR (some G.1), pI v1, pI v2] u (some (pI r.1)) r.2 0 0 := by
  refine j_met (lv0 := [(0, pR (some G.1)), (1, pI v1), (2, pI v2)]) ⟨pl_X5, rfl, rfl, (Nat.le_of_ble_eq_true rfl), rfl⟩ ?_
  unfold m5_price at hf
  refine j_aload_n dX5_price_0 0 rfl ?_
  refine j_iload_n dX5_price_1 1 rfl ?_
  refine j_iload_n dX5_price_2 2 rfl ?_
  obtain ⟨x1, hx1, hf⟩ := ob hf
  refine j_cVr [pI v1, pI v2] [] kT_v (bM_mv G) (c5_noEvent v1 v2 u hx1) wv5_noEvent dv5_noEvent rfl ⟨(Nat.le_of_ble_eq_true rfl), (Nat.le_of_ble_eq_true rfl)⟩ (m_recv u) rfl (Nat.le_of_ble_eq_true rfl) dX5_price_3 ⟨Nat.le_refl 0, Nat.le_refl 0⟩ ?_
  refine j_if_ge (w32 x1) rfl 16 dX5_price_6 (by decide) (fun h10 => ?_) (fun h10 => ?_)
  · replace hf := it h10 hf
    refine j_aload_n dX5_price_16 0 rfl ?_
    refine m_geta mf_72 rfl dX5_price_17 ?_
    refine j_iload_n dX5_price_20 1 rfl ?_
    obtain ⟨x2, hx2, hf⟩ := ob hf
    refine m_iald mr_72 hx2 dX5_price_21 ?_
    refine j_istore_n dX5_price_22 [(3, pI x2), (0, pR (some G.1)), (1, pI v1), (2, pI v2)] (Nat.le_of_ble_eq_true rfl) rfl ?_
    refine j_aload_n dX5_price_23 1 rfl ?_
    refine j_iload_n dX5_price_24 0 rfl ?_
    refine j_iload_n dX5_price_25 2 rfl ?_
    refine j_iload_n dX5_price_26 3 rfl ?_
    obtain ⟨u3, hu3, hf⟩ := ob hf
    refine j_cVv [pI x2, pI v1, pI v2] [] kT_v (bM_mv G) (c5_takeDigits x2 v1 v2 u hu3) wv5_takeDigits dv5_takeDigits rfl ⟨(Nat.le_of_ble_eq_true rfl), (Nat.le_of_ble_eq_true rfl)⟩ (m_recv u) rfl (Nat.le_of_ble_eq_true rfl) dX5_price_27 ⟨Nat.le_refl 0, Nat.le_refl 0⟩ ?_
    refine j_lconst (z := 0) dX5_price_30 rfl ?_
    refine j_lstore dX5_price_31 [(4, pL 0), (3, pI x2), (0, pR (some G.1)), (1, pI v1), (2, pI v2)] (Nat.le_of_ble_eq_true rfl) rfl ?_
    refine j_lconst (z := 1) dX5_price_33 rfl ?_
    refine j_lstore dX5_price_34 [(6, pL 1), (4, pL 0), (3, pI x2), (0, pR (some G.1)), (1, pI v1), (2, pI v2)] (Nat.le_of_ble_eq_true rfl) rfl ?_
    refine j_iconst dX5_price_36 ?_
    refine j_istore dX5_price_37 [(8, pI 0), (6, pL 1), (4, pL 0), (3, pI x2), (0, pR (some G.1)), (1, pI v1), (2, pI v2)] (Nat.le_of_ble_eq_true rfl) rfl ?_
    refine j_sub [4, 3, 2, 1, 0] _ rfl (c5_price_l39 x2 ?_ ?_ ?_ NN 0 1 0 u3 hf)
    · intro q4 hf
      simp only [Sum.elim_inl, Sum.elim_inr] at hf
      refine j_bipush dX5_price_74 (by decide) ?_
      refine j_iload dX5_price_76 0 rfl ?_
      refine j_isub dX5_price_78 ?_
      replace hf := Option.some.inj hf
      subst hf
      exact j_ireturn (bM_mv G) ⟨Nat.le_refl 0, Nat.le_refl 0⟩ rfl dX5_price_79
    · intro q5 hf
      simp only [Sum.elim_inl, Sum.elim_inr] at hf
      refine j_bipush dX5_price_204 (by decide) ?_
      replace hf := Option.some.inj hf
      subst hf
      exact j_ireturn (bM_mv G) ⟨Nat.le_refl 0, Nat.le_refl 0⟩ rfl dX5_price_206
    · intro q6 hf
      simp only [Sum.elim_inl, Sum.elim_inr] at hf
      refine j_lload dX5_price_231 0 rfl ?_
      refine j_lload dX5_price_233 1 rfl ?_
      obtain ⟨x7, hx7, hf⟩ := ob hf
      refine j_cSr [pL q6.1, pL q6.2.1] [] kT_v (bM_mv G) (c5_nearest q6.1 q6.2.1 q6.2.2 hx7) wv5_nearest dv5_nearest rfl ⟨(Nat.le_of_ble_eq_true rfl), (Nat.le_of_ble_eq_true rfl)⟩ rfl (Nat.le_of_ble_eq_true rfl) dX5_price_235 ⟨Nat.le_refl 0, Nat.le_refl 0⟩ ?_
      refine j_lstore dX5_price_238 [(4, pL x7), (6, pL q6.2.1)] (Nat.le_of_ble_eq_true rfl) rfl ?_
      refine j_lload dX5_price_240 0 rfl ?_
      refine j_ldc2 (z := 99999999) q2551 (by decide) dX5_price_242 ?_
      refine j_lc_le 254 dX5_price_245 dX5_price_246 (by decide) (fun h8 => ?_) (fun h8 => ?_)
      · replace hf := it h8 hf
        refine j_lload dX5_price_254 0 rfl ?_
        refine j_l2i dX5_price_256 ?_
        replace hf := Option.some.inj hf
        subst hf
        exact j_ireturn (bM_mv G) ⟨Nat.le_refl 0, Nat.le_refl 0⟩ rfl dX5_price_257
      · replace hf := ie h8 hf
        refine j_bipush dX5_price_249 (by decide) ?_
        refine j_goto 257 dX5_price_251 (by decide) ?_
        replace hf := Option.some.inj hf
        subst hf
        exact j_ireturn (bM_mv G) ⟨Nat.le_refl 0, Nat.le_refl 0⟩ rfl dX5_price_257
  · replace hf := ie h10 hf
    refine j_aload_n dX5_price_9 0 rfl ?_
    refine j_iload_n dX5_price_10 1 rfl ?_
    refine j_iload_n dX5_price_11 2 rfl ?_
    obtain ⟨x9, hx9, hf⟩ := ob hf
    refine j_cVr [pI v1, pI v2] [] kT_v (bM_mv G) (c5_noEvent v1 v2 u hx9) wv5_noEvent dv5_noEvent rfl ⟨(Nat.le_of_ble_eq_true rfl), (Nat.le_of_ble_eq_true rfl)⟩ (m_recv u) rfl (Nat.le_of_ble_eq_true rfl) dX5_price_12 ⟨Nat.le_refl 0, Nat.le_refl 0⟩ ?_
    replace hf := Option.some.inj hf
    subst hf
    exact j_ireturn (bM_mv G) ⟨Nat.le_refl 0, Nat.le_refl 0⟩ rfl dX5_price_15
theorem c5_policy {G : MG} {l : Launch} {r : Int × Mu}  (u : Mu) (hf : m5_policy u = some r) : JM kT (bM G) (aM G) l yX5_policy D5_policy [pR (some G.1)] u (some (pI r.1)) r.2 0 0 := by
  refine j_met (lv0 := [(0, pR (some G.1))]) ⟨pl_X5, rfl, rfl, (Nat.le_of_ble_eq_true rfl), rfl⟩ ?_
  unfold m5_policy at hf
  refine j_aload_n dX5_policy_0 0 rfl ?_
  refine m_geti mf_81 rfl dX5_policy_1 ?_
  refine j_bipush dX5_policy_4 (by decide) ?_
  refine j_icmp_ne (w32 (u.1 81)) 12 rfl rfl 12 dX5_policy_6 (by decide) (fun h3 => ?_) (fun h3 => ?_)
  · replace hf := ie h3 hf
    refine j_aload_n dX5_policy_12 0 rfl ?_
    refine j_dup dX5_policy_13 rfl ?_
    refine m_geti mf_81 rfl dX5_policy_14 ?_
    refine j_iconst dX5_policy_17 ?_
    refine j_iadd dX5_policy_18 ?_
    obtain ⟨u1, hu1, hf⟩ := ob hf
    refine m_puti_ hu1 mf_81 mfw_81 rfl dX5_policy_19 ?_
    refine j_aload_n dX5_policy_22 0 rfl ?_
    refine m_geta mf_82 rfl dX5_policy_23 ?_
    refine j_aload_n dX5_policy_26 0 rfl ?_
    refine m_geti mf_81 rfl dX5_policy_27 ?_
    refine j_iconst dX5_policy_30 ?_
    obtain ⟨u2, hu2, hf⟩ := ob hf
    refine m_iast mr_82 hu2 dX5_policy_31 ?_
    refine j_aload_n dX5_policy_32 0 rfl ?_
    refine m_geti mf_81 rfl dX5_policy_33 ?_
    replace hf := Option.some.inj hf
    subst hf
    exact j_ireturn (bM_mv G) ⟨Nat.le_refl 0, Nat.le_refl 0⟩ rfl dX5_policy_36
  · replace hf := it h3 hf
    refine j_bipush dX5_policy_9 (by decide) ?_
    replace hf := Option.some.inj hf
    subst hf
    exact j_ireturn (bM_mv G) ⟨Nat.le_refl 0, Nat.le_refl 0⟩ rfl dX5_policy_11
theorem c5_isPolicy {G : MG} {l : Launch} {r : Int} (v1 : Int) (u : Mu) (hf : m5_isPolicy v1 u = some r) : JM kT (bM G) (aM G) l yX5_isPolicy D5_isPolicy [pR (some G.1), pI v1] u (some (pI r)) u 0 0 := by
  refine j_met (lv0 := [(0, pR (some G.1)), (1, pI v1)]) ⟨pl_X5, rfl, rfl, (Nat.le_of_ble_eq_true rfl), rfl⟩ ?_
  unfold m5_isPolicy at hf
  refine j_iload_n dX5_isPolicy_0 1 rfl ?_
  refine j_iconst dX5_isPolicy_1 ?_
  refine j_icmp_lt (w32 v1) 1 rfl rfl 17 dX5_isPolicy_2 (by decide) (fun h2 => ?_) (fun h2 => ?_)
  · replace hf := it h2 hf
    refine j_iconst dX5_isPolicy_17 ?_
    replace hf := Option.some.inj hf
    subst hf
    exact j_zreturn (x := 0) (bM_mv G) ⟨Nat.le_refl 0, Nat.le_refl 0⟩ (ty := .boolean) rfl (nar_z (Or.inl rfl)) dX5_isPolicy_18
  · replace hf := ie h2 hf
    refine j_iload_n dX5_isPolicy_5 1 rfl ?_
    refine j_aload_n dX5_isPolicy_6 0 rfl ?_
    refine m_geti mf_81 rfl dX5_isPolicy_7 ?_
    refine j_icmp_gt (w32 v1) (w32 (u.1 81)) rfl rfl 17 dX5_isPolicy_10 (by decide) (fun h1 => ?_) (fun h1 => ?_)
    · replace hf := it h1 hf
      refine j_iconst dX5_isPolicy_17 ?_
      replace hf := Option.some.inj hf
      subst hf
      exact j_zreturn (x := 0) (bM_mv G) ⟨Nat.le_refl 0, Nat.le_refl 0⟩ (ty := .boolean) rfl (nar_z (Or.inl rfl)) dX5_isPolicy_18
    · replace hf := ie h1 hf
      refine j_iconst dX5_isPolicy_13 ?_
      refine j_goto 18 dX5_isPolicy_14 (by decide) ?_
      replace hf := Option.some.inj hf
      subst hf
      exact j_zreturn (x := 1) (bM_mv G) ⟨Nat.le_refl 0, Nat.le_refl 0⟩ (ty := .boolean) rfl (nar_z (Or.inr rfl)) dX5_isPolicy_18
theorem c5_change_b65 {G : MG} {l : Launch} {a : List PV} {r : Int × Mu} (v1 : Int) (v2 : Int) (v3 : Int) (v4 : Int) (v5 : Int) (u : Mu) (hf : m5_change_b65 v1 v2 v3 v4 v5 u = some r) : J5 G l D5_change a (some (pI r.1)) r.2 u 65 [(0, pR (some G.1)), (1, pI v1), (2, pI v2), (3, pI v3), (4, pI v4), (5, pI v5)] [] := by
  unfold m5_change_b65 at hf
  refine j_iload dX5_change_65 4 rfl ?_
  obtain ⟨x1, hx1, hf⟩ := ob hf
  refine j_cSr [pI v4] [] kT_v (bM_mv G) (c5_isDay v4 u hx1) wv5_isDay dv5_isDay rfl ⟨(Nat.le_of_ble_eq_true rfl), (Nat.le_of_ble_eq_true rfl)⟩ rfl (Nat.le_of_ble_eq_true rfl) dX5_change_67 ⟨Nat.le_refl 0, Nat.le_refl 0⟩ ?_
  refine j_if_eq (w32 x1) rfl 81 dX5_change_70 (by decide) (fun h14 => ?_) (fun h14 => ?_)
  · replace hf := it h14 hf
    refine j_bipush dX5_change_81 (by decide) ?_
    replace hf := Option.some.inj hf
    subst hf
    exact j_ireturn (bM_mv G) ⟨Nat.le_refl 0, Nat.le_refl 0⟩ rfl dX5_change_83
  · replace hf := ie h14 hf
    refine j_iload dX5_change_73 5 rfl ?_
    obtain ⟨x2, hx2, hf⟩ := ob hf
    refine j_cSr [pI v5] [] kT_v (bM_mv G) (c5_isDay v5 u hx2) wv5_isDay dv5_isDay rfl ⟨(Nat.le_of_ble_eq_true rfl), (Nat.le_of_ble_eq_true rfl)⟩ rfl (Nat.le_of_ble_eq_true rfl) dX5_change_75 ⟨Nat.le_refl 0, Nat.le_refl 0⟩ ?_
    refine j_if_ne (w32 x2) rfl 84 dX5_change_78 (by decide) (fun h13 => ?_) (fun h13 => ?_)
    · replace hf := ie h13 hf
      refine j_aload_n dX5_change_84 0 rfl ?_
      refine m_geta mf_82 rfl dX5_change_85 ?_
      refine j_iload_n dX5_change_88 1 rfl ?_
      obtain ⟨x3, hx3, hf⟩ := ob hf
      refine m_iald mr_82 hx3 dX5_change_89 ?_
      refine j_bipush dX5_change_90 (by decide) ?_
      refine j_icmp_ne (w32 x3) 24 rfl rfl 98 dX5_change_92 (by decide) (fun h12 => ?_) (fun h12 => ?_)
      · replace hf := ie h12 hf
        refine j_bipush dX5_change_98 (by decide) ?_
        refine j_iload_n dX5_change_100 1 rfl ?_
        refine j_imul dX5_change_101 ?_
        refine j_aload_n dX5_change_102 0 rfl ?_
        refine m_geta mf_82 rfl dX5_change_103 ?_
        refine j_iload_n dX5_change_106 1 rfl ?_
        obtain ⟨x4, hx4, hf⟩ := ob hf
        refine m_iald mr_82 hx4 dX5_change_107 ?_
        refine j_iadd dX5_change_108 ?_
        refine j_istore dX5_change_109 [(6, pI ((24 * v1) + x4)), (0, pR (some G.1)), (1, pI v1), (2, pI v2), (3, pI v3), (4, pI v4), (5, pI v5)] (Nat.le_of_ble_eq_true rfl) rfl ?_
        refine j_aload_n dX5_change_111 1 rfl ?_
        refine m_geta mf_83 rfl dX5_change_112 ?_
        refine j_iload dX5_change_115 0 rfl ?_
        refine j_iload_n dX5_change_117 3 rfl ?_
        obtain ⟨u5, hu5, hf⟩ := ob hf
        refine m_iast mr_83 hu5 dX5_change_118 ?_
        refine j_aload_n dX5_change_119 1 rfl ?_
        refine m_geta mf_84 rfl dX5_change_120 ?_
        refine j_iload dX5_change_123 0 rfl ?_
        refine j_iload_n dX5_change_125 4 rfl ?_
        obtain ⟨u6, hu6, hf⟩ := ob hf
        refine m_iast mr_84 hu6 dX5_change_126 ?_
        refine j_aload_n dX5_change_127 1 rfl ?_
        refine m_geta mf_85 rfl dX5_change_128 ?_
        refine j_iload dX5_change_131 0 rfl ?_
        refine j_iload dX5_change_133 5 rfl ?_
        obtain ⟨u7, hu7, hf⟩ := ob hf
        refine m_iast mr_85 hu7 dX5_change_135 ?_
        refine j_aload_n dX5_change_136 1 rfl ?_
        refine m_geta mf_86 rfl dX5_change_137 ?_
        refine j_iload dX5_change_140 0 rfl ?_
        refine j_iload dX5_change_142 6 rfl ?_
        obtain ⟨u8, hu8, hf⟩ := ob hf
        refine m_iast mr_86 hu8 dX5_change_144 ?_
        refine j_aload_n dX5_change_145 1 rfl ?_
        refine m_geta mf_82 rfl dX5_change_146 ?_
        refine j_iload_n dX5_change_149 2 rfl ?_
        refine j_dup2_11 dX5_change_150 rfl rfl ?_
        obtain ⟨x9, hx9, hf⟩ := ob hf
        refine m_iald mr_82 hx9 dX5_change_151 ?_
        refine j_iconst dX5_change_152 ?_
        refine j_iadd dX5_change_153 ?_
        obtain ⟨u10, hu10, hf⟩ := ob hf
        refine m_iast mr_82 hu10 dX5_change_154 ?_
        refine j_aload_n dX5_change_155 1 rfl ?_
        refine m_geta mf_82 rfl dX5_change_156 ?_
        refine j_iload_n dX5_change_159 2 rfl ?_
        obtain ⟨x11, hx11, hf⟩ := ob hf
        refine m_iald mr_82 hx11 dX5_change_160 ?_
        replace hf := Option.some.inj hf
        subst hf
        exact j_ireturn (bM_mv G) ⟨Nat.le_refl 0, Nat.le_refl 0⟩ rfl dX5_change_161
      · replace hf := it h12 hf
        refine j_bipush dX5_change_95 (by decide) ?_
        replace hf := Option.some.inj hf
        subst hf
        exact j_ireturn (bM_mv G) ⟨Nat.le_refl 0, Nat.le_refl 0⟩ rfl dX5_change_97
    · replace hf := it h13 hf
      refine j_bipush dX5_change_81 (by decide) ?_
      replace hf := Option.some.inj hf
      subst hf
      exact j_ireturn (bM_mv G) ⟨Nat.le_refl 0, Nat.le_refl 0⟩ rfl dX5_change_83
theorem c5_change_b51 {G : MG} {l : Launch} {a : List PV} {r : Int × Mu} (v1 : Int) (v2 : Int) (v3 : Int) (v4 : Int) (v5 : Int) (u : Mu) (hf : m5_change_b51 v1 v2 v3 v4 v5 u = some r) : J5 G l D5_change a (some (pI r.1)) r.2 u 51 [(0, pR (some G.1)), (1, pI v1), (2, pI v2), (3, pI v3), (4, pI v4), (5, pI v5)] [] := by
  unfold m5_change_b51 at hf
  refine j_iload_n dX5_change_51 2 rfl ?_
  refine j_iconst dX5_change_52 ?_
  refine j_icmp_ne (w32 v2) 2 rfl rfl 65 dX5_change_53 (by decide) (fun h3 => ?_) (fun h3 => ?_)
  · replace hf := ie h3 hf
    exact j_sub [0, 1, 2, 3, 4, 5] _ rfl (c5_change_b65 v1 v2 v3 v4 v5 u hf)
  · replace hf := it h3 hf
    refine j_iload_n dX5_change_56 3 rfl ?_
    refine j_if_lt (w32 v3) rfl 81 dX5_change_57 (by decide) (fun h2 => ?_) (fun h2 => ?_)
    · replace hf := it h2 hf
      refine j_bipush dX5_change_81 (by decide) ?_
      replace hf := Option.some.inj hf
      subst hf
      exact j_ireturn (bM_mv G) ⟨Nat.le_refl 0, Nat.le_refl 0⟩ rfl dX5_change_83
    · replace hf := ie h2 hf
      refine j_iload_n dX5_change_60 3 rfl ?_
      refine j_iconst dX5_change_61 ?_
      refine j_icmp_gt (w32 v3) 1 rfl rfl 81 dX5_change_62 (by decide) (fun h1 => ?_) (fun h1 => ?_)
      · replace hf := it h1 hf
        refine j_bipush dX5_change_81 (by decide) ?_
        replace hf := Option.some.inj hf
        subst hf
        exact j_ireturn (bM_mv G) ⟨Nat.le_refl 0, Nat.le_refl 0⟩ rfl dX5_change_83
      · replace hf := ie h1 hf
        exact j_sub [0, 1, 2, 3, 4, 5] _ rfl (c5_change_b65 v1 v2 v3 v4 v5 u hf)
theorem c5_change_b35 {G : MG} {l : Launch} {a : List PV} {r : Int × Mu} (v1 : Int) (v2 : Int) (v3 : Int) (v4 : Int) (v5 : Int) (u : Mu) (hf : m5_change_b35 v1 v2 v3 v4 v5 u = some r) : J5 G l D5_change a (some (pI r.1)) r.2 u 35 [(0, pR (some G.1)), (1, pI v1), (2, pI v2), (3, pI v3), (4, pI v4), (5, pI v5)] [] := by
  unfold m5_change_b35 at hf
  refine j_iload_n dX5_change_35 2 rfl ?_
  refine j_iconst dX5_change_36 ?_
  refine j_icmp_ne (w32 v2) 1 rfl rfl 51 dX5_change_37 (by decide) (fun h3 => ?_) (fun h3 => ?_)
  · replace hf := ie h3 hf
    exact j_sub [0, 1, 2, 3, 4, 5] _ rfl (c5_change_b51 v1 v2 v3 v4 v5 u hf)
  · replace hf := it h3 hf
    refine j_iload_n dX5_change_40 3 rfl ?_
    refine j_if_lt (w32 v3) rfl 81 dX5_change_41 (by decide) (fun h2 => ?_) (fun h2 => ?_)
    · replace hf := it h2 hf
      refine j_bipush dX5_change_81 (by decide) ?_
      replace hf := Option.some.inj hf
      subst hf
      exact j_ireturn (bM_mv G) ⟨Nat.le_refl 0, Nat.le_refl 0⟩ rfl dX5_change_83
    · replace hf := ie h2 hf
      refine j_iload_n dX5_change_44 3 rfl ?_
      refine j_ldcw (z := 99999999) q2327 (by decide) dX5_change_45 ?_
      refine j_icmp_gt (w32 v3) 99999999 rfl rfl 81 dX5_change_48 (by decide) (fun h1 => ?_) (fun h1 => ?_)
      · replace hf := it h1 hf
        refine j_bipush dX5_change_81 (by decide) ?_
        replace hf := Option.some.inj hf
        subst hf
        exact j_ireturn (bM_mv G) ⟨Nat.le_refl 0, Nat.le_refl 0⟩ rfl dX5_change_83
      · replace hf := ie h1 hf
        exact j_sub [0, 1, 2, 3, 4, 5] _ rfl (c5_change_b51 v1 v2 v3 v4 v5 u hf)
theorem c5_change {G : MG} {l : Launch} {r : Int × Mu} (v1 : Int) (v2 : Int) (v3 : Int) (v4 : Int) (v5 : Int) (u : Mu) (hf : m5_change v1 v2 v3 v4 v5 u = some r) : JM kT (bM G) (aM G) l yX5_change D5_change [pR (some G.1), pI v1, pI v2, pI v3, pI v4, pI v5] u (some (pI r.1)) r.2 0 0 := by
  refine j_met (lv0 := [(0, pR (some G.1)), (1, pI v1), (2, pI v2), (3, pI v3), (4, pI v4), (5, pI v5)]) ⟨pl_X5, rfl, rfl, (Nat.le_of_ble_eq_true rfl), rfl⟩ ?_
  unfold m5_change at hf
  refine j_aload_n dX5_change_0 0 rfl ?_
  refine j_iload_n dX5_change_1 1 rfl ?_
  obtain ⟨x1, hx1, hf⟩ := ob hf
  refine j_cVr [pI v1] [] kT_v (bM_mv G) (c5_isPolicy v1 u hx1) wv5_isPolicy dv5_isPolicy rfl ⟨(Nat.le_of_ble_eq_true rfl), (Nat.le_of_ble_eq_true rfl)⟩ (m_recv u) rfl (Nat.le_of_ble_eq_true rfl) dX5_change_2 ⟨Nat.le_refl 0, Nat.le_refl 0⟩ ?_
  refine j_if_eq (w32 x1) rfl 33 dX5_change_5 (by decide) (fun h8 => ?_) (fun h8 => ?_)
  · replace hf := it h8 hf
    refine j_iconst dX5_change_33 ?_
    replace hf := Option.some.inj hf
    subst hf
    exact j_ireturn (bM_mv G) ⟨Nat.le_refl 0, Nat.le_refl 0⟩ rfl dX5_change_34
  · replace hf := ie h8 hf
    refine j_iload_n dX5_change_8 2 rfl ?_
    refine j_if_lt (w32 v2) rfl 33 dX5_change_9 (by decide) (fun h7 => ?_) (fun h7 => ?_)
    · replace hf := it h7 hf
      refine j_iconst dX5_change_33 ?_
      replace hf := Option.some.inj hf
      subst hf
      exact j_ireturn (bM_mv G) ⟨Nat.le_refl 0, Nat.le_refl 0⟩ rfl dX5_change_34
    · replace hf := ie h7 hf
      refine j_iload_n dX5_change_12 2 rfl ?_
      refine j_iconst dX5_change_13 ?_
      refine j_icmp_gt (w32 v2) 2 rfl rfl 33 dX5_change_14 (by decide) (fun h6 => ?_) (fun h6 => ?_)
      · replace hf := it h6 hf
        refine j_iconst dX5_change_33 ?_
        replace hf := Option.some.inj hf
        subst hf
        exact j_ireturn (bM_mv G) ⟨Nat.le_refl 0, Nat.le_refl 0⟩ rfl dX5_change_34
      · replace hf := ie h6 hf
        refine j_iload_n dX5_change_17 2 rfl ?_
        refine j_if_ne (w32 v2) rfl 35 dX5_change_18 (by decide) (fun h5 => ?_) (fun h5 => ?_)
        · replace hf := ie h5 hf
          exact j_sub [0, 1, 2, 3, 4, 5] _ rfl (c5_change_b35 v1 v2 v3 v4 v5 u hf)
        · replace hf := it h5 hf
          refine j_iload_n dX5_change_21 3 rfl ?_
          refine j_if_eq (w32 v3) rfl 35 dX5_change_22 (by decide) (fun h4 => ?_) (fun h4 => ?_)
          · replace hf := it h4 hf
            exact j_sub [0, 1, 2, 3, 4, 5] _ rfl (c5_change_b35 v1 v2 v3 v4 v5 u hf)
          · replace hf := ie h4 hf
            refine j_aload_n dX5_change_25 0 rfl ?_
            refine j_iload_n dX5_change_26 3 rfl ?_
            obtain ⟨x2, hx2, hf⟩ := ob hf
            refine j_cVr [pI v3] [] kT_v (bM_mv G) (c5_isWording v3 u hx2) wv5_isWording dv5_isWording rfl ⟨(Nat.le_of_ble_eq_true rfl), (Nat.le_of_ble_eq_true rfl)⟩ (m_recv u) rfl (Nat.le_of_ble_eq_true rfl) dX5_change_27 ⟨Nat.le_refl 0, Nat.le_refl 0⟩ ?_
            refine j_if_ne (w32 x2) rfl 35 dX5_change_30 (by decide) (fun h3 => ?_) (fun h3 => ?_)
            · replace hf := ie h3 hf
              exact j_sub [0, 1, 2, 3, 4, 5] _ rfl (c5_change_b35 v1 v2 v3 v4 v5 u hf)
            · replace hf := it h3 hf
              refine j_iconst dX5_change_33 ?_
              replace hf := Option.some.inj hf
              subst hf
              exact j_ireturn (bM_mv G) ⟨Nat.le_refl 0, Nat.le_refl 0⟩ rfl dX5_change_34
theorem c5_held_b105 {G : MG} {l : Launch} {a : List PV} {r : Int} {Kf : Int → Option (Int)} {v1 : Int} {v2 : Int} {v3 : Int} {v4 : Int} {u : Mu} (kh : Int → Int → Int → Int → Option (Int)) (hkh : ∀ (z5 : Int) (z6 : Int) (z7 : Int) (z8 : Int), ((kh z5 z6 z7 z8).bind Kf = some r) → J5 G l D5_held a (some (pI r)) u u 12 [(0, pR (some G.1)), (1, pI v1), (2, pI v2), (3, pI v3), (4, pI v4), (5, pI z5), (6, pI z6), (7, pI z7), (8, pI z8)] []) (hK0 : ∀ q : Int, Kf q = some r → J5 G l D5_held a (some (pI r)) u u 138 [(7, pI q)] []) (v8 : Int) (v9 : Int) (hf : (m5_held_b105 kh v1 v2 v3 v4 v8 v9 u).bind Kf = some r) : J5 G l D5_held a (some (pI r)) u u 105 [(0, pR (some G.1)), (1, pI v1), (2, pI v2), (3, pI v3), (4, pI v4), (8, pI v8), (9, pI v9)] [] := by
  unfold m5_held_b105 at hf
  refine j_aload_n dX5_held_105 0 rfl ?_
  refine m_geta mf_85 rfl dX5_held_106 ?_
  refine j_iload dX5_held_109 6 rfl ?_
  obtain ⟨x1, hx1, hf⟩ := obb hf
  refine m_iald mr_85 hx1 dX5_held_111 ?_
  refine j_istore dX5_held_112 [(5, pI x1), (0, pR (some G.1)), (1, pI v1), (2, pI v2), (3, pI v3), (4, pI v4), (8, pI v8), (9, pI v9)] (Nat.le_of_ble_eq_true rfl) rfl ?_
  refine j_aload_n dX5_held_114 1 rfl ?_
  refine m_geta mf_86 rfl dX5_held_115 ?_
  refine j_iload dX5_held_118 7 rfl ?_
  obtain ⟨x2, hx2, hf⟩ := obb hf
  refine m_iald mr_86 hx2 dX5_held_120 ?_
  refine j_istore dX5_held_121 [(6, pI x2), (5, pI x1), (0, pR (some G.1)), (1, pI v1), (2, pI v2), (3, pI v3), (4, pI v4), (8, pI v8), (9, pI v9)] (Nat.le_of_ble_eq_true rfl) rfl ?_
  refine j_aload_n dX5_held_123 2 rfl ?_
  refine m_geta mf_84 rfl dX5_held_124 ?_
  refine j_iload dX5_held_127 8 rfl ?_
  obtain ⟨x3, hx3, hf⟩ := obb hf
  refine m_iald mr_84 hx3 dX5_held_129 ?_
  refine j_istore dX5_held_130 [(7, pI x3), (6, pI x2), (5, pI x1), (0, pR (some G.1)), (1, pI v1), (2, pI v2), (3, pI v3), (4, pI v4), (8, pI v8), (9, pI v9)] (Nat.le_of_ble_eq_true rfl) rfl ?_
  refine j_iinc dX5_held_132 8 rfl [(8, pI (v8 + 1)), (7, pI x3), (6, pI x2), (5, pI x1), (0, pR (some G.1)), (1, pI v1), (2, pI v2), (3, pI v3), (4, pI v4), (9, pI v9)] (Nat.le_of_ble_eq_true rfl) rfl ?_
  refine j_goto 12 dX5_held_135 (by decide) ?_
  exact j_sub [4, 5, 6, 7, 8, 3, 2, 1, 0] _ rfl (hkh x1 x2 x3 (v8 + 1) hf)
theorem c5_held_l12 {G : MG} {l : Launch} {a : List PV} {r : Int} {Kf : Int → Option (Int)} (v1 : Int) (v2 : Int) (v3 : Int) (v4 : Int) (u : Mu) (hK0 : ∀ q : Int, Kf q = some r → J5 G l D5_held a (some (pI r)) u u 138 [(7, pI q)] []) : ∀ (n : Nat) (v5 : Int) (v6 : Int) (v7 : Int) (v8 : Int), ((m5_held_l12 v1 v2 v3 v4 u n v5 v6 v7 v8).bind Kf = some r) → J5 G l D5_held a (some (pI r)) u u 12 [(0, pR (some G.1)), (1, pI v1), (2, pI v2), (3, pI v3), (4, pI v4), (5, pI v5), (6, pI v6), (7, pI v7), (8, pI v8)] [] := by
  intro n
  induction n with
  | zero => intro v5 v6 v7 v8 hf; exact onb hf
  | succ n ih =>
    intro v5 v6 v7 v8 hf
    unfold m5_held_l12 at hf
    refine j_iload dX5_held_12 8 rfl ?_
    refine j_aload_n dX5_held_14 0 rfl ?_
    refine m_geta mf_82 rfl dX5_held_15 ?_
    refine j_iload_n dX5_held_18 1 rfl ?_
    obtain ⟨x1, hx1, hf⟩ := obb hf
    refine m_iald mr_82 hx1 dX5_held_19 ?_
    refine j_icmp_ge (w32 v8) (w32 x1) rfl rfl 138 dX5_held_20 (by decide) (fun h14 => ?_) (fun h14 => ?_)
    · replace hf := itb h14 hf
      exact j_sub [7] _ rfl (hK0 v7 hf)
    · replace hf := ieb h14 hf
      refine j_bipush dX5_held_23 (by decide) ?_
      refine j_iload_n dX5_held_25 1 rfl ?_
      refine j_imul dX5_held_26 ?_
      refine j_iload dX5_held_27 8 rfl ?_
      refine j_iadd dX5_held_29 ?_
      refine j_istore dX5_held_30 [(9, pI ((24 * v1) + v8)), (0, pR (some G.1)), (1, pI v1), (2, pI v2), (3, pI v3), (4, pI v4), (5, pI v5), (6, pI v6), (7, pI v7), (8, pI v8)] (Nat.le_of_ble_eq_true rfl) rfl ?_
      refine j_aload_n dX5_held_32 1 rfl ?_
      refine m_geta mf_83 rfl dX5_held_33 ?_
      refine j_iload dX5_held_36 0 rfl ?_
      obtain ⟨x2, hx2, hf⟩ := obb hf
      refine m_iald mr_83 hx2 dX5_held_38 ?_
      refine j_iload_n dX5_held_39 3 rfl ?_
      refine j_icmp_ne (w32 x2) (w32 v2) rfl rfl 132 dX5_held_40 (by decide) (fun h13 => ?_) (fun h13 => ?_)
      · replace hf := ieb h13 hf
        refine j_iinc dX5_held_132 9 rfl [(8, pI (v8 + 1)), (9, pI ((24 * v1) + v8)), (0, pR (some G.1)), (1, pI v1), (2, pI v2), (3, pI v3), (4, pI v4), (5, pI v5), (6, pI v6), (7, pI v7)] (Nat.le_of_ble_eq_true rfl) rfl ?_
        refine j_goto 12 dX5_held_135 (by decide) ?_
        exact j_sub [2, 3, 4, 5, 6, 7, 8, 9, 0] _ rfl (ih v5 v6 v7 (v8 + 1) hf)
      · replace hf := itb h13 hf
        refine j_aload_n dX5_held_43 1 rfl ?_
        refine m_geta mf_85 rfl dX5_held_44 ?_
        refine j_iload dX5_held_47 0 rfl ?_
        obtain ⟨x3, hx3, hf⟩ := obb hf
        refine m_iald mr_85 hx3 dX5_held_49 ?_
        refine j_iload_n dX5_held_50 4 rfl ?_
        refine j_icmp_gt (w32 x3) (w32 v3) rfl rfl 132 dX5_held_51 (by decide) (fun h12 => ?_) (fun h12 => ?_)
        · replace hf := itb h12 hf
          refine j_iinc dX5_held_132 9 rfl [(8, pI (v8 + 1)), (9, pI ((24 * v1) + v8)), (0, pR (some G.1)), (1, pI v1), (2, pI v2), (3, pI v3), (4, pI v4), (5, pI v5), (6, pI v6), (7, pI v7)] (Nat.le_of_ble_eq_true rfl) rfl ?_
          refine j_goto 12 dX5_held_135 (by decide) ?_
          exact j_sub [2, 3, 4, 5, 6, 7, 8, 9, 0] _ rfl (ih v5 v6 v7 (v8 + 1) hf)
        · replace hf := ieb h12 hf
          refine j_aload_n dX5_held_54 1 rfl ?_
          refine m_geta mf_86 rfl dX5_held_55 ?_
          refine j_iload dX5_held_58 0 rfl ?_
          obtain ⟨x4, hx4, hf⟩ := obb hf
          refine m_iald mr_86 hx4 dX5_held_60 ?_
          refine j_iload dX5_held_61 5 rfl ?_
          refine j_icmp_le (w32 x4) (w32 v4) rfl rfl 69 dX5_held_63 (by decide) (fun h11 => ?_) (fun h11 => ?_)
          · replace hf := itb h11 hf
            refine j_aload_n dX5_held_69 1 rfl ?_
            refine m_geta mf_85 rfl dX5_held_70 ?_
            refine j_iload dX5_held_73 0 rfl ?_
            obtain ⟨x5, hx5, hf⟩ := obb hf
            refine m_iald mr_85 hx5 dX5_held_75 ?_
            refine j_iload dX5_held_76 6 rfl ?_
            refine j_icmp_gt (w32 x5) (w32 v5) rfl rfl 105 dX5_held_78 (by decide) (fun h10 => ?_) (fun h10 => ?_)
            · replace hf := itb h10 hf
              exact j_sub [1, 2, 3, 4, 5, 9, 0] _ rfl (c5_held_b105 (m5_held_l12 v1 v2 v3 v4 u n) ih hK0 v8 ((24 * v1) + v8) hf)
            · replace hf := ieb h10 hf
              refine j_aload_n dX5_held_81 1 rfl ?_
              refine m_geta mf_85 rfl dX5_held_82 ?_
              refine j_iload dX5_held_85 0 rfl ?_
              obtain ⟨x6, hx6, hf⟩ := obb hf
              refine m_iald mr_85 hx6 dX5_held_87 ?_
              refine j_iload dX5_held_88 6 rfl ?_
              refine j_icmp_ne (w32 x6) (w32 v5) rfl rfl 132 dX5_held_90 (by decide) (fun h9 => ?_) (fun h9 => ?_)
              · replace hf := ieb h9 hf
                refine j_iinc dX5_held_132 9 rfl [(8, pI (v8 + 1)), (9, pI ((24 * v1) + v8)), (0, pR (some G.1)), (1, pI v1), (2, pI v2), (3, pI v3), (4, pI v4), (5, pI v5), (6, pI v6), (7, pI v7)] (Nat.le_of_ble_eq_true rfl) rfl ?_
                refine j_goto 12 dX5_held_135 (by decide) ?_
                exact j_sub [2, 3, 4, 5, 6, 7, 8, 9, 0] _ rfl (ih v5 v6 v7 (v8 + 1) hf)
              · replace hf := itb h9 hf
                refine j_aload_n dX5_held_93 1 rfl ?_
                refine m_geta mf_86 rfl dX5_held_94 ?_
                refine j_iload dX5_held_97 0 rfl ?_
                obtain ⟨x7, hx7, hf⟩ := obb hf
                refine m_iald mr_86 hx7 dX5_held_99 ?_
                refine j_iload dX5_held_100 7 rfl ?_
                refine j_icmp_lt (w32 x7) (w32 v6) rfl rfl 132 dX5_held_102 (by decide) (fun h8 => ?_) (fun h8 => ?_)
                · replace hf := itb h8 hf
                  refine j_iinc dX5_held_132 9 rfl [(8, pI (v8 + 1)), (9, pI ((24 * v1) + v8)), (0, pR (some G.1)), (1, pI v1), (2, pI v2), (3, pI v3), (4, pI v4), (5, pI v5), (6, pI v6), (7, pI v7)] (Nat.le_of_ble_eq_true rfl) rfl ?_
                  refine j_goto 12 dX5_held_135 (by decide) ?_
                  exact j_sub [2, 3, 4, 5, 6, 7, 8, 9, 0] _ rfl (ih v5 v6 v7 (v8 + 1) hf)
                · replace hf := ieb h8 hf
                  exact j_sub [1, 2, 3, 4, 5, 9, 0] _ rfl (c5_held_b105 (m5_held_l12 v1 v2 v3 v4 u n) ih hK0 v8 ((24 * v1) + v8) hf)
          · replace hf := ieb h11 hf
            refine j_goto 132 dX5_held_66 (by decide) ?_
            refine j_iinc dX5_held_132 9 rfl [(8, pI (v8 + 1)), (9, pI ((24 * v1) + v8)), (0, pR (some G.1)), (1, pI v1), (2, pI v2), (3, pI v3), (4, pI v4), (5, pI v5), (6, pI v6), (7, pI v7)] (Nat.le_of_ble_eq_true rfl) rfl ?_
            refine j_goto 12 dX5_held_135 (by decide) ?_
            exact j_sub [2, 3, 4, 5, 6, 7, 8, 9, 0] _ rfl (ih v5 v6 v7 (v8 + 1) hf)
theorem c5_held {G : MG} {l : Launch} {r : Int} (v1 : Int) (v2 : Int) (v3 : Int) (v4 : Int) (u : Mu) (hf : m5_held v1 v2 v3 v4 u = some r) : JM kT (bM G) (aM G) l yX5_held D5_held [pR (some G.1), pI v1, pI v2, pI v3, pI v4] u (some (pI r)) u 0 0 := by
  refine j_met (lv0 := [(0, pR (some G.1)), (1, pI v1), (2, pI v2), (3, pI v3), (4, pI v4)]) ⟨pl_X5, rfl, rfl, (Nat.le_of_ble_eq_true rfl), rfl⟩ ?_
  unfold m5_held at hf
  refine j_iconst dX5_held_0 ?_
  refine j_istore dX5_held_1 [(5, pI (-1)), (0, pR (some G.1)), (1, pI v1), (2, pI v2), (3, pI v3), (4, pI v4)] (Nat.le_of_ble_eq_true rfl) rfl ?_
  refine j_iconst dX5_held_3 ?_
  refine j_istore dX5_held_4 [(6, pI (-1)), (5, pI (-1)), (0, pR (some G.1)), (1, pI v1), (2, pI v2), (3, pI v3), (4, pI v4)] (Nat.le_of_ble_eq_true rfl) rfl ?_
  refine j_iconst dX5_held_6 ?_
  refine j_istore dX5_held_7 [(7, pI 0), (6, pI (-1)), (5, pI (-1)), (0, pR (some G.1)), (1, pI v1), (2, pI v2), (3, pI v3), (4, pI v4)] (Nat.le_of_ble_eq_true rfl) rfl ?_
  refine j_iconst dX5_held_9 ?_
  refine j_istore dX5_held_10 [(8, pI 0), (7, pI 0), (6, pI (-1)), (5, pI (-1)), (0, pR (some G.1)), (1, pI v1), (2, pI v2), (3, pI v3), (4, pI v4)] (Nat.le_of_ble_eq_true rfl) rfl ?_
  refine j_sub [4, 5, 6, 7, 8, 3, 2, 1, 0] _ rfl (c5_held_l12 v1 v2 v3 v4 u ?_ NN (-1) (-1) 0 0 hf)
  · intro q1 hf
    refine j_iload dX5_held_138 0 rfl ?_
    replace hf := Option.some.inj hf
    subst hf
    exact j_ireturn (bM_mv G) ⟨Nat.le_refl 0, Nat.le_refl 0⟩ rfl dX5_held_140
theorem c5_holds {G : MG} {l : Launch} {r : Int} (v1 : Int) (v2 : Int) (v3 : Int) (v4 : Int) (u : Mu) (hf : m5_holds v1 v2 v3 v4 u = some r) : JM kT (bM G) (aM G) l yX5_holds D5_holds [pR (some G.1), pI v1, pI v2, pI v3, pI v4] u (some (pI r)) u 0 0 := by
  refine j_met (lv0 := [(0, pR (some G.1)), (1, pI v1), (2, pI v2), (3, pI v3), (4, pI v4)]) ⟨pl_X5, rfl, rfl, (Nat.le_of_ble_eq_true rfl), rfl⟩ ?_
  unfold m5_holds at hf
  refine j_aload_n dX5_holds_0 0 rfl ?_
  refine j_iload_n dX5_holds_1 1 rfl ?_
  obtain ⟨x1, hx1, hf⟩ := ob hf
  refine j_cVr [pI v1] [] kT_v (bM_mv G) (c5_isPolicy v1 u hx1) wv5_isPolicy dv5_isPolicy rfl ⟨(Nat.le_of_ble_eq_true rfl), (Nat.le_of_ble_eq_true rfl)⟩ (m_recv u) rfl (Nat.le_of_ble_eq_true rfl) dX5_holds_2 ⟨Nat.le_refl 0, Nat.le_refl 0⟩ ?_
  refine j_if_eq (w32 x1) rfl 17 dX5_holds_5 (by decide) (fun h9 => ?_) (fun h9 => ?_)
  · replace hf := it h9 hf
    refine j_iconst dX5_holds_17 ?_
    replace hf := Option.some.inj hf
    subst hf
    exact j_ireturn (bM_mv G) ⟨Nat.le_refl 0, Nat.le_refl 0⟩ rfl dX5_holds_18
  · replace hf := ie h9 hf
    refine j_iload_n dX5_holds_8 2 rfl ?_
    refine j_if_lt (w32 v2) rfl 17 dX5_holds_9 (by decide) (fun h8 => ?_) (fun h8 => ?_)
    · replace hf := it h8 hf
      refine j_iconst dX5_holds_17 ?_
      replace hf := Option.some.inj hf
      subst hf
      exact j_ireturn (bM_mv G) ⟨Nat.le_refl 0, Nat.le_refl 0⟩ rfl dX5_holds_18
    · replace hf := ie h8 hf
      refine j_iload_n dX5_holds_12 2 rfl ?_
      refine j_iconst dX5_holds_13 ?_
      refine j_icmp_le (w32 v2) 2 rfl rfl 19 dX5_holds_14 (by decide) (fun h7 => ?_) (fun h7 => ?_)
      · replace hf := it h7 hf
        refine j_iload_n dX5_holds_19 3 rfl ?_
        obtain ⟨x2, hx2, hf⟩ := ob hf
        refine j_cSr [pI v3] [] kT_v (bM_mv G) (c5_isDay v3 u hx2) wv5_isDay dv5_isDay rfl ⟨(Nat.le_of_ble_eq_true rfl), (Nat.le_of_ble_eq_true rfl)⟩ rfl (Nat.le_of_ble_eq_true rfl) dX5_holds_20 ⟨Nat.le_refl 0, Nat.le_refl 0⟩ ?_
        refine j_if_eq (w32 x2) rfl 46 dX5_holds_23 (by decide) (fun h6 => ?_) (fun h6 => ?_)
        · replace hf := it h6 hf
          refine j_bipush dX5_holds_46 (by decide) ?_
          replace hf := Option.some.inj hf
          subst hf
          exact j_ireturn (bM_mv G) ⟨Nat.le_refl 0, Nat.le_refl 0⟩ rfl dX5_holds_48
        · replace hf := ie h6 hf
          refine j_iload dX5_holds_26 4 rfl ?_
          obtain ⟨x3, hx3, hf⟩ := ob hf
          refine j_cSr [pI v4] [] kT_v (bM_mv G) (c5_isDay v4 u hx3) wv5_isDay dv5_isDay rfl ⟨(Nat.le_of_ble_eq_true rfl), (Nat.le_of_ble_eq_true rfl)⟩ rfl (Nat.le_of_ble_eq_true rfl) dX5_holds_28 ⟨Nat.le_refl 0, Nat.le_refl 0⟩ ?_
          refine j_if_eq (w32 x3) rfl 46 dX5_holds_31 (by decide) (fun h5 => ?_) (fun h5 => ?_)
          · replace hf := it h5 hf
            refine j_bipush dX5_holds_46 (by decide) ?_
            replace hf := Option.some.inj hf
            subst hf
            exact j_ireturn (bM_mv G) ⟨Nat.le_refl 0, Nat.le_refl 0⟩ rfl dX5_holds_48
          · replace hf := ie h5 hf
            refine j_aload_n dX5_holds_34 0 rfl ?_
            refine j_iload_n dX5_holds_35 1 rfl ?_
            refine j_iload_n dX5_holds_36 2 rfl ?_
            refine j_iload_n dX5_holds_37 3 rfl ?_
            refine j_iload dX5_holds_38 4 rfl ?_
            obtain ⟨x4, hx4, hf⟩ := ob hf
            refine j_cVr [pI v1, pI v2, pI v3, pI v4] [] kT_v (bM_mv G) (c5_held v1 v2 v3 v4 u hx4) wv5_held dv5_held rfl ⟨(Nat.le_of_ble_eq_true rfl), (Nat.le_of_ble_eq_true rfl)⟩ (m_recv u) rfl (Nat.le_of_ble_eq_true rfl) dX5_holds_40 ⟨Nat.le_refl 0, Nat.le_refl 0⟩ ?_
            refine j_goto 48 dX5_holds_43 (by decide) ?_
            replace hf := Option.some.inj hf
            subst hf
            exact j_ireturn (bM_mv G) ⟨Nat.le_refl 0, Nat.le_refl 0⟩ rfl dX5_holds_48
      · replace hf := ie h7 hf
        refine j_iconst dX5_holds_17 ?_
        replace hf := Option.some.inj hf
        subst hf
        exact j_ireturn (bM_mv G) ⟨Nat.le_refl 0, Nat.le_refl 0⟩ rfl dX5_holds_18
theorem c5_claim {G : MG} {l : Launch} {r : Int × Mu} (v1 : Int) (v2 : Int) (v3 : Int) (v4 : Int) (u : Mu) (hf : m5_claim v1 v2 v3 v4 u = some r) : JM kT (bM G) (aM G) l yX5_claim D5_claim [pR (some G.1), pI v1, pI v2, pI v3, pI v4] u (some (pI r.1)) r.2 0 0 := by
  refine j_met (lv0 := [(0, pR (some G.1)), (1, pI v1), (2, pI v2), (3, pI v3), (4, pI v4)]) ⟨pl_X5, rfl, rfl, (Nat.le_of_ble_eq_true rfl), rfl⟩ ?_
  unfold m5_claim at hf
  refine j_aload_n dX5_claim_0 0 rfl ?_
  refine j_iload_n dX5_claim_1 1 rfl ?_
  obtain ⟨x1, hx1, hf⟩ := ob hf
  refine j_cVr [pI v1] [] kT_v (bM_mv G) (c5_isPolicy v1 u hx1) wv5_isPolicy dv5_isPolicy rfl ⟨(Nat.le_of_ble_eq_true rfl), (Nat.le_of_ble_eq_true rfl)⟩ (m_recv u) rfl (Nat.le_of_ble_eq_true rfl) dX5_claim_2 ⟨Nat.le_refl 0, Nat.le_refl 0⟩ ?_
  refine j_if_eq (w32 x1) rfl 16 dX5_claim_5 (by decide) (fun h15 => ?_) (fun h15 => ?_)
  · replace hf := it h15 hf
    refine j_iconst dX5_claim_16 ?_
    replace hf := Option.some.inj hf
    subst hf
    exact j_ireturn (bM_mv G) ⟨Nat.le_refl 0, Nat.le_refl 0⟩ rfl dX5_claim_17
  · replace hf := ie h15 hf
    refine j_aload_n dX5_claim_8 0 rfl ?_
    refine j_iload_n dX5_claim_9 2 rfl ?_
    obtain ⟨x2, hx2, hf⟩ := ob hf
    refine j_cVr [pI v2] [] kT_v (bM_mv G) (c5_isEvent v2 u hx2) wv5_isEvent dv5_isEvent rfl ⟨(Nat.le_of_ble_eq_true rfl), (Nat.le_of_ble_eq_true rfl)⟩ (m_recv u) rfl (Nat.le_of_ble_eq_true rfl) dX5_claim_10 ⟨Nat.le_refl 0, Nat.le_refl 0⟩ ?_
    refine j_if_ne (w32 x2) rfl 18 dX5_claim_13 (by decide) (fun h14 => ?_) (fun h14 => ?_)
    · replace hf := ie h14 hf
      refine j_iload_n dX5_claim_18 3 rfl ?_
      obtain ⟨x3, hx3, hf⟩ := ob hf
      refine j_cSr [pI v3] [] kT_v (bM_mv G) (c5_isDay v3 u hx3) wv5_isDay dv5_isDay rfl ⟨(Nat.le_of_ble_eq_true rfl), (Nat.le_of_ble_eq_true rfl)⟩ rfl (Nat.le_of_ble_eq_true rfl) dX5_claim_19 ⟨Nat.le_refl 0, Nat.le_refl 0⟩ ?_
      refine j_if_eq (w32 x3) rfl 33 dX5_claim_22 (by decide) (fun h13 => ?_) (fun h13 => ?_)
      · replace hf := it h13 hf
        refine j_bipush dX5_claim_33 (by decide) ?_
        replace hf := Option.some.inj hf
        subst hf
        exact j_ireturn (bM_mv G) ⟨Nat.le_refl 0, Nat.le_refl 0⟩ rfl dX5_claim_35
      · replace hf := ie h13 hf
        refine j_iload dX5_claim_25 4 rfl ?_
        obtain ⟨x4, hx4, hf⟩ := ob hf
        refine j_cSr [pI v4] [] kT_v (bM_mv G) (c5_isDay v4 u hx4) wv5_isDay dv5_isDay rfl ⟨(Nat.le_of_ble_eq_true rfl), (Nat.le_of_ble_eq_true rfl)⟩ rfl (Nat.le_of_ble_eq_true rfl) dX5_claim_27 ⟨Nat.le_refl 0, Nat.le_refl 0⟩ ?_
        refine j_if_ne (w32 x4) rfl 36 dX5_claim_30 (by decide) (fun h12 => ?_) (fun h12 => ?_)
        · replace hf := ie h12 hf
          refine j_aload_n dX5_claim_36 0 rfl ?_
          refine m_geti mf_87 rfl dX5_claim_37 ?_
          refine j_bipush dX5_claim_40 (by decide) ?_
          refine j_icmp_ne (w32 (u.1 87)) 40 rfl rfl 48 dX5_claim_42 (by decide) (fun h11 => ?_) (fun h11 => ?_)
          · replace hf := ie h11 hf
            refine j_aload_n dX5_claim_48 0 rfl ?_
            refine j_dup dX5_claim_49 rfl ?_
            refine m_geti mf_87 rfl dX5_claim_50 ?_
            refine j_iconst dX5_claim_53 ?_
            refine j_iadd dX5_claim_54 ?_
            obtain ⟨u5, hu5, hf⟩ := ob hf
            refine m_puti_ hu5 mf_87 mfw_87 rfl dX5_claim_55 ?_
            refine j_aload_n dX5_claim_58 0 rfl ?_
            refine m_geta mf_88 rfl dX5_claim_59 ?_
            refine j_aload_n dX5_claim_62 0 rfl ?_
            refine m_geti mf_87 rfl dX5_claim_63 ?_
            refine j_iload_n dX5_claim_66 1 rfl ?_
            obtain ⟨u6, hu6, hf⟩ := ob hf
            refine m_iast mr_88 hu6 dX5_claim_67 ?_
            refine j_aload_n dX5_claim_68 0 rfl ?_
            refine m_geta mf_89 rfl dX5_claim_69 ?_
            refine j_aload_n dX5_claim_72 0 rfl ?_
            refine m_geti mf_87 rfl dX5_claim_73 ?_
            refine j_iload_n dX5_claim_76 2 rfl ?_
            obtain ⟨u7, hu7, hf⟩ := ob hf
            refine m_iast mr_89 hu7 dX5_claim_77 ?_
            refine j_aload_n dX5_claim_78 0 rfl ?_
            refine m_geta mf_90 rfl dX5_claim_79 ?_
            refine j_aload_n dX5_claim_82 0 rfl ?_
            refine m_geti mf_87 rfl dX5_claim_83 ?_
            refine j_iload_n dX5_claim_86 3 rfl ?_
            obtain ⟨u8, hu8, hf⟩ := ob hf
            refine m_iast mr_90 hu8 dX5_claim_87 ?_
            refine j_aload_n dX5_claim_88 0 rfl ?_
            refine m_geta mf_91 rfl dX5_claim_89 ?_
            refine j_aload_n dX5_claim_92 0 rfl ?_
            refine m_geti mf_87 rfl dX5_claim_93 ?_
            refine j_iload dX5_claim_96 4 rfl ?_
            obtain ⟨u9, hu9, hf⟩ := ob hf
            refine m_iast mr_91 hu9 dX5_claim_98 ?_
            refine j_aload_n dX5_claim_99 0 rfl ?_
            refine m_geta mf_92 rfl dX5_claim_100 ?_
            refine j_aload_n dX5_claim_103 0 rfl ?_
            refine m_geti mf_87 rfl dX5_claim_104 ?_
            refine j_iconst dX5_claim_107 ?_
            obtain ⟨u10, hu10, hf⟩ := ob hf
            refine m_iast mr_92 hu10 dX5_claim_108 ?_
            refine j_aload_n dX5_claim_109 0 rfl ?_
            refine m_geti mf_87 rfl dX5_claim_110 ?_
            replace hf := Option.some.inj hf
            subst hf
            exact j_ireturn (bM_mv G) ⟨Nat.le_refl 0, Nat.le_refl 0⟩ rfl dX5_claim_113
          · replace hf := it h11 hf
            refine j_bipush dX5_claim_45 (by decide) ?_
            replace hf := Option.some.inj hf
            subst hf
            exact j_ireturn (bM_mv G) ⟨Nat.le_refl 0, Nat.le_refl 0⟩ rfl dX5_claim_47
        · replace hf := it h12 hf
          refine j_bipush dX5_claim_33 (by decide) ?_
          replace hf := Option.some.inj hf
          subst hf
          exact j_ireturn (bM_mv G) ⟨Nat.le_refl 0, Nat.le_refl 0⟩ rfl dX5_claim_35
    · replace hf := it h14 hf
      refine j_iconst dX5_claim_16 ?_
      replace hf := Option.some.inj hf
      subst hf
      exact j_ireturn (bM_mv G) ⟨Nat.le_refl 0, Nat.le_refl 0⟩ rfl dX5_claim_17
theorem c5_isClaim {G : MG} {l : Launch} {r : Int} (v1 : Int) (u : Mu) (hf : m5_isClaim v1 u = some r) : JM kT (bM G) (aM G) l yX5_isClaim D5_isClaim [pR (some G.1), pI v1] u (some (pI r)) u 0 0 := by
  refine j_met (lv0 := [(0, pR (some G.1)), (1, pI v1)]) ⟨pl_X5, rfl, rfl, (Nat.le_of_ble_eq_true rfl), rfl⟩ ?_
  unfold m5_isClaim at hf
  refine j_iload_n dX5_isClaim_0 1 rfl ?_
  refine j_iconst dX5_isClaim_1 ?_
  refine j_icmp_lt (w32 v1) 1 rfl rfl 17 dX5_isClaim_2 (by decide) (fun h2 => ?_) (fun h2 => ?_)
  · replace hf := it h2 hf
    refine j_iconst dX5_isClaim_17 ?_
    replace hf := Option.some.inj hf
    subst hf
    exact j_zreturn (x := 0) (bM_mv G) ⟨Nat.le_refl 0, Nat.le_refl 0⟩ (ty := .boolean) rfl (nar_z (Or.inl rfl)) dX5_isClaim_18
  · replace hf := ie h2 hf
    refine j_iload_n dX5_isClaim_5 1 rfl ?_
    refine j_aload_n dX5_isClaim_6 0 rfl ?_
    refine m_geti mf_87 rfl dX5_isClaim_7 ?_
    refine j_icmp_gt (w32 v1) (w32 (u.1 87)) rfl rfl 17 dX5_isClaim_10 (by decide) (fun h1 => ?_) (fun h1 => ?_)
    · replace hf := it h1 hf
      refine j_iconst dX5_isClaim_17 ?_
      replace hf := Option.some.inj hf
      subst hf
      exact j_zreturn (x := 0) (bM_mv G) ⟨Nat.le_refl 0, Nat.le_refl 0⟩ (ty := .boolean) rfl (nar_z (Or.inl rfl)) dX5_isClaim_18
    · replace hf := ie h1 hf
      refine j_iconst dX5_isClaim_13 ?_
      refine j_goto 18 dX5_isClaim_14 (by decide) ?_
      replace hf := Option.some.inj hf
      subst hf
      exact j_zreturn (x := 1) (bM_mv G) ⟨Nat.le_refl 0, Nat.le_refl 0⟩ (ty := .boolean) rfl (nar_z (Or.inr rfl)) dX5_isClaim_18
theorem c5_loss {G : MG} {l : Launch} {r : Int × Mu} (v1 : Int) (v2 : Int) (v3 : Int) (u : Mu) (hf : m5_loss v1 v2 v3 u = some r) : JM kT (bM G) (aM G) l yX5_loss D5_loss [pR (some G.1), pI v1, pI v2, pI v3] u (some (pI r.1)) r.2 0 0 := by
  refine j_met (lv0 := [(0, pR (some G.1)), (1, pI v1), (2, pI v2), (3, pI v3)]) ⟨pl_X5, rfl, rfl, (Nat.le_of_ble_eq_true rfl), rfl⟩ ?_
  unfold m5_loss at hf
  refine j_aload_n dX5_loss_0 0 rfl ?_
  refine j_iload_n dX5_loss_1 1 rfl ?_
  obtain ⟨x1, hx1, hf⟩ := ob hf
  refine j_cVr [pI v1] [] kT_v (bM_mv G) (c5_isClaim v1 u hx1) wv5_isClaim dv5_isClaim rfl ⟨(Nat.le_of_ble_eq_true rfl), (Nat.le_of_ble_eq_true rfl)⟩ (m_recv u) rfl (Nat.le_of_ble_eq_true rfl) dX5_loss_2 ⟨Nat.le_refl 0, Nat.le_refl 0⟩ ?_
  refine j_if_ne (w32 x1) rfl 10 dX5_loss_5 (by decide) (fun h15 => ?_) (fun h15 => ?_)
  · replace hf := ie h15 hf
    refine j_iload_n dX5_loss_10 2 rfl ?_
    refine j_if_lt (w32 v2) rfl 28 dX5_loss_11 (by decide) (fun h14 => ?_) (fun h14 => ?_)
    · replace hf := it h14 hf
      refine j_bipush dX5_loss_28 (by decide) ?_
      replace hf := Option.some.inj hf
      subst hf
      exact j_ireturn (bM_mv G) ⟨Nat.le_refl 0, Nat.le_refl 0⟩ rfl dX5_loss_30
    · replace hf := ie h14 hf
      refine j_iload_n dX5_loss_14 2 rfl ?_
      refine j_ldcw (z := 99999999) q2327 (by decide) dX5_loss_15 ?_
      refine j_icmp_gt (w32 v2) 99999999 rfl rfl 28 dX5_loss_18 (by decide) (fun h13 => ?_) (fun h13 => ?_)
      · replace hf := it h13 hf
        refine j_bipush dX5_loss_28 (by decide) ?_
        replace hf := Option.some.inj hf
        subst hf
        exact j_ireturn (bM_mv G) ⟨Nat.le_refl 0, Nat.le_refl 0⟩ rfl dX5_loss_30
      · replace hf := ie h13 hf
        refine j_iload_n dX5_loss_21 3 rfl ?_
        obtain ⟨x2, hx2, hf⟩ := ob hf
        refine j_cSr [pI v3] [] kT_v (bM_mv G) (c5_isDay v3 u hx2) wv5_isDay dv5_isDay rfl ⟨(Nat.le_of_ble_eq_true rfl), (Nat.le_of_ble_eq_true rfl)⟩ rfl (Nat.le_of_ble_eq_true rfl) dX5_loss_22 ⟨Nat.le_refl 0, Nat.le_refl 0⟩ ?_
        refine j_if_ne (w32 x2) rfl 31 dX5_loss_25 (by decide) (fun h12 => ?_) (fun h12 => ?_)
        · replace hf := ie h12 hf
          refine j_aload_n dX5_loss_31 0 rfl ?_
          refine m_geta mf_92 rfl dX5_loss_32 ?_
          refine j_iload_n dX5_loss_35 1 rfl ?_
          obtain ⟨x3, hx3, hf⟩ := ob hf
          refine m_iald mr_92 hx3 dX5_loss_36 ?_
          refine j_bipush dX5_loss_37 (by decide) ?_
          refine j_icmp_ne (w32 x3) 6 rfl rfl 45 dX5_loss_39 (by decide) (fun h11 => ?_) (fun h11 => ?_)
          · replace hf := ie h11 hf
            refine j_aload_n dX5_loss_45 0 rfl ?_
            refine m_geta mf_93 rfl dX5_loss_46 ?_
            refine j_bipush dX5_loss_49 (by decide) ?_
            refine j_iload_n dX5_loss_51 1 rfl ?_
            refine j_imul dX5_loss_52 ?_
            refine j_aload_n dX5_loss_53 0 rfl ?_
            refine m_geta mf_92 rfl dX5_loss_54 ?_
            refine j_iload_n dX5_loss_57 1 rfl ?_
            obtain ⟨x4, hx4, hf⟩ := ob hf
            refine m_iald mr_92 hx4 dX5_loss_58 ?_
            refine j_iadd dX5_loss_59 ?_
            refine j_iload_n dX5_loss_60 2 rfl ?_
            obtain ⟨u5, hu5, hf⟩ := ob hf
            refine m_iast mr_93 hu5 dX5_loss_61 ?_
            refine j_aload_n dX5_loss_62 0 rfl ?_
            refine m_geta mf_94 rfl dX5_loss_63 ?_
            refine j_bipush dX5_loss_66 (by decide) ?_
            refine j_iload_n dX5_loss_68 1 rfl ?_
            refine j_imul dX5_loss_69 ?_
            refine j_aload_n dX5_loss_70 0 rfl ?_
            refine m_geta mf_92 rfl dX5_loss_71 ?_
            refine j_iload_n dX5_loss_74 1 rfl ?_
            obtain ⟨x6, hx6, hf⟩ := ob hf
            refine m_iald mr_92 hx6 dX5_loss_75 ?_
            refine j_iadd dX5_loss_76 ?_
            refine j_iload_n dX5_loss_77 3 rfl ?_
            obtain ⟨u7, hu7, hf⟩ := ob hf
            refine m_iast mr_94 hu7 dX5_loss_78 ?_
            refine j_aload_n dX5_loss_79 0 rfl ?_
            refine m_geta mf_92 rfl dX5_loss_80 ?_
            refine j_iload_n dX5_loss_83 1 rfl ?_
            refine j_dup2_11 dX5_loss_84 rfl rfl ?_
            obtain ⟨x8, hx8, hf⟩ := ob hf
            refine m_iald mr_92 hx8 dX5_loss_85 ?_
            refine j_iconst dX5_loss_86 ?_
            refine j_iadd dX5_loss_87 ?_
            obtain ⟨u9, hu9, hf⟩ := ob hf
            refine m_iast mr_92 hu9 dX5_loss_88 ?_
            refine j_aload_n dX5_loss_89 0 rfl ?_
            refine m_geta mf_92 rfl dX5_loss_90 ?_
            refine j_iload_n dX5_loss_93 1 rfl ?_
            obtain ⟨x10, hx10, hf⟩ := ob hf
            refine m_iald mr_92 hx10 dX5_loss_94 ?_
            replace hf := Option.some.inj hf
            subst hf
            exact j_ireturn (bM_mv G) ⟨Nat.le_refl 0, Nat.le_refl 0⟩ rfl dX5_loss_95
          · replace hf := it h11 hf
            refine j_bipush dX5_loss_42 (by decide) ?_
            replace hf := Option.some.inj hf
            subst hf
            exact j_ireturn (bM_mv G) ⟨Nat.le_refl 0, Nat.le_refl 0⟩ rfl dX5_loss_44
        · replace hf := it h12 hf
          refine j_bipush dX5_loss_28 (by decide) ?_
          replace hf := Option.some.inj hf
          subst hf
          exact j_ireturn (bM_mv G) ⟨Nat.le_refl 0, Nat.le_refl 0⟩ rfl dX5_loss_30
  · replace hf := it h15 hf
    refine j_iconst dX5_loss_8 ?_
    replace hf := Option.some.inj hf
    subst hf
    exact j_ireturn (bM_mv G) ⟨Nat.le_refl 0, Nat.le_refl 0⟩ rfl dX5_loss_9
theorem c5_lesser {G : MG} {l : Launch} {r : Int} (v0 : Int) (v2 : Int) (u : Mu) (hf : m5_lesser v0 v2 = some r) : JM kT (bM G) (aM G) l yX5_lesser D5_lesser [pL v0, pL v2] u (some (pL r)) u 0 0 := by
  refine j_met (lv0 := [(0, pL v0), (2, pL v2)]) ⟨pl_X5, rfl, rfl, (Nat.le_of_ble_eq_true rfl), rfl⟩ ?_
  unfold m5_lesser at hf
  refine j_lload_n dX5_lesser_0 0 rfl ?_
  refine j_lload_n dX5_lesser_1 1 rfl ?_
  refine j_lc_ge 10 dX5_lesser_2 dX5_lesser_3 (by decide) (fun h1 => ?_) (fun h1 => ?_)
  · replace hf := it h1 hf
    refine j_lload_n dX5_lesser_10 1 rfl ?_
    replace hf := Option.some.inj hf
    subst hf
    exact j_lreturn (bM_mv G) ⟨Nat.le_refl 0, Nat.le_refl 0⟩ rfl dX5_lesser_11
  · replace hf := ie h1 hf
    refine j_lload_n dX5_lesser_6 0 rfl ?_
    refine j_goto 11 dX5_lesser_7 (by decide) ?_
    replace hf := Option.some.inj hf
    subst hf
    exact j_lreturn (bM_mv G) ⟨Nat.le_refl 0, Nat.le_refl 0⟩ rfl dX5_lesser_11
theorem c5_lossAt_l8 {G : MG} {l : Launch} {a : List PV} {r : Int} {Kf : Int → Option (Int)} (v1 : Int) (v2 : Int) (u : Mu) (hK0 : ∀ q : Int, Kf q = some r → J5 G l D5_lossAt a (some (pI r)) u u 84 [(4, pI q)] []) : ∀ (n : Nat) (v3 : Int) (v4 : Int) (v5 : Int), ((m5_lossAt_l8 v1 v2 u n v3 v4 v5).bind Kf = some r) → J5 G l D5_lossAt a (some (pI r)) u u 8 [(0, pR (some G.1)), (1, pI v1), (2, pI v2), (3, pI v3), (4, pI v4), (5, pI v5)] [] := by
  intro n
  induction n with
  | zero => intro v3 v4 v5 hf; exact onb hf
  | succ n ih =>
    intro v3 v4 v5 hf
    unfold m5_lossAt_l8 at hf
    refine j_iload dX5_lossAt_8 5 rfl ?_
    refine j_aload_n dX5_lossAt_10 0 rfl ?_
    refine m_geta mf_92 rfl dX5_lossAt_11 ?_
    refine j_iload_n dX5_lossAt_14 1 rfl ?_
    obtain ⟨x1, hx1, hf⟩ := obb hf
    refine m_iald mr_92 hx1 dX5_lossAt_15 ?_
    refine j_icmp_ge (w32 v5) (w32 x1) rfl rfl 84 dX5_lossAt_16 (by decide) (fun h8 => ?_) (fun h8 => ?_)
    · replace hf := itb h8 hf
      exact j_sub [4] _ rfl (hK0 v4 hf)
    · replace hf := ieb h8 hf
      refine j_aload_n dX5_lossAt_19 0 rfl ?_
      refine m_geta mf_94 rfl dX5_lossAt_20 ?_
      refine j_bipush dX5_lossAt_23 (by decide) ?_
      refine j_iload_n dX5_lossAt_25 1 rfl ?_
      refine j_imul dX5_lossAt_26 ?_
      refine j_iload dX5_lossAt_27 5 rfl ?_
      refine j_iadd dX5_lossAt_29 ?_
      obtain ⟨x2, hx2, hf⟩ := obb hf
      refine m_iald mr_94 hx2 dX5_lossAt_30 ?_
      refine j_iload_n dX5_lossAt_31 2 rfl ?_
      refine j_icmp_gt (w32 x2) (w32 v2) rfl rfl 78 dX5_lossAt_32 (by decide) (fun h7 => ?_) (fun h7 => ?_)
      · replace hf := itb h7 hf
        refine j_iinc dX5_lossAt_78 5 rfl [(5, pI (v5 + 1)), (0, pR (some G.1)), (1, pI v1), (2, pI v2), (3, pI v3), (4, pI v4)] (Nat.le_of_ble_eq_true rfl) rfl ?_
        refine j_goto 8 dX5_lossAt_81 (by decide) ?_
        exact j_sub [1, 2, 3, 4, 5, 0] _ rfl (ih v3 v4 (v5 + 1) hf)
      · replace hf := ieb h7 hf
        refine j_aload_n dX5_lossAt_35 0 rfl ?_
        refine m_geta mf_94 rfl dX5_lossAt_36 ?_
        refine j_bipush dX5_lossAt_39 (by decide) ?_
        refine j_iload_n dX5_lossAt_41 1 rfl ?_
        refine j_imul dX5_lossAt_42 ?_
        refine j_iload dX5_lossAt_43 5 rfl ?_
        refine j_iadd dX5_lossAt_45 ?_
        obtain ⟨x3, hx3, hf⟩ := obb hf
        refine m_iald mr_94 hx3 dX5_lossAt_46 ?_
        refine j_iload_n dX5_lossAt_47 3 rfl ?_
        refine j_icmp_lt (w32 x3) (w32 v3) rfl rfl 78 dX5_lossAt_48 (by decide) (fun h6 => ?_) (fun h6 => ?_)
        · replace hf := itb h6 hf
          refine j_iinc dX5_lossAt_78 5 rfl [(5, pI (v5 + 1)), (0, pR (some G.1)), (1, pI v1), (2, pI v2), (3, pI v3), (4, pI v4)] (Nat.le_of_ble_eq_true rfl) rfl ?_
          refine j_goto 8 dX5_lossAt_81 (by decide) ?_
          exact j_sub [1, 2, 3, 4, 5, 0] _ rfl (ih v3 v4 (v5 + 1) hf)
        · replace hf := ieb h6 hf
          refine j_aload_n dX5_lossAt_51 0 rfl ?_
          refine m_geta mf_94 rfl dX5_lossAt_52 ?_
          refine j_bipush dX5_lossAt_55 (by decide) ?_
          refine j_iload_n dX5_lossAt_57 1 rfl ?_
          refine j_imul dX5_lossAt_58 ?_
          refine j_iload dX5_lossAt_59 5 rfl ?_
          refine j_iadd dX5_lossAt_61 ?_
          obtain ⟨x4, hx4, hf⟩ := obb hf
          refine m_iald mr_94 hx4 dX5_lossAt_62 ?_
          refine j_istore_n dX5_lossAt_63 [(3, pI x4), (0, pR (some G.1)), (1, pI v1), (2, pI v2), (4, pI v4), (5, pI v5)] (Nat.le_of_ble_eq_true rfl) rfl ?_
          refine j_aload_n dX5_lossAt_64 1 rfl ?_
          refine m_geta mf_93 rfl dX5_lossAt_65 ?_
          refine j_bipush dX5_lossAt_68 (by decide) ?_
          refine j_iload_n dX5_lossAt_70 2 rfl ?_
          refine j_imul dX5_lossAt_71 ?_
          refine j_iload dX5_lossAt_72 5 rfl ?_
          refine j_iadd dX5_lossAt_74 ?_
          obtain ⟨x5, hx5, hf⟩ := obb hf
          refine m_iald mr_93 hx5 dX5_lossAt_75 ?_
          refine j_istore dX5_lossAt_76 [(4, pI x5), (3, pI x4), (0, pR (some G.1)), (1, pI v1), (2, pI v2), (5, pI v5)] (Nat.le_of_ble_eq_true rfl) rfl ?_
          refine j_iinc dX5_lossAt_78 5 rfl [(5, pI (v5 + 1)), (4, pI x5), (3, pI x4), (0, pR (some G.1)), (1, pI v1), (2, pI v2)] (Nat.le_of_ble_eq_true rfl) rfl ?_
          refine j_goto 8 dX5_lossAt_81 (by decide) ?_
          exact j_sub [3, 4, 5, 2, 1, 0] _ rfl (ih x4 x5 (v5 + 1) hf)
theorem c5_lossAt {G : MG} {l : Launch} {r : Int} (v1 : Int) (v2 : Int) (u : Mu) (hf : m5_lossAt v1 v2 u = some r) : JM kT (bM G) (aM G) l yX5_lossAt D5_lossAt [pR (some G.1), pI v1, pI v2] u (some (pI r)) u 0 0 := by
  refine j_met (lv0 := [(0, pR (some G.1)), (1, pI v1), (2, pI v2)]) ⟨pl_X5, rfl, rfl, (Nat.le_of_ble_eq_true rfl), rfl⟩ ?_
  unfold m5_lossAt at hf
  refine j_iconst dX5_lossAt_0 ?_
  refine j_istore_n dX5_lossAt_1 [(3, pI (-1)), (0, pR (some G.1)), (1, pI v1), (2, pI v2)] (Nat.le_of_ble_eq_true rfl) rfl ?_
  refine j_iconst dX5_lossAt_2 ?_
  refine j_istore dX5_lossAt_3 [(4, pI 0), (3, pI (-1)), (0, pR (some G.1)), (1, pI v1), (2, pI v2)] (Nat.le_of_ble_eq_true rfl) rfl ?_
  refine j_iconst dX5_lossAt_5 ?_
  refine j_istore dX5_lossAt_6 [(5, pI 0), (4, pI 0), (3, pI (-1)), (0, pR (some G.1)), (1, pI v1), (2, pI v2)] (Nat.le_of_ble_eq_true rfl) rfl ?_
  refine j_sub [3, 4, 5, 2, 1, 0] _ rfl (c5_lossAt_l8 v1 v2 u ?_ NN (-1) 0 0 hf)
  · intro q1 hf
    refine j_iload dX5_lossAt_84 0 rfl ?_
    replace hf := Option.some.inj hf
    subst hf
    exact j_ireturn (bM_mv G) ⟨Nat.le_refl 0, Nat.le_refl 0⟩ rfl dX5_lossAt_86
theorem c5_due_b174 {G : MG} {l : Launch} {a : List PV} {r : Int × Mu} {Kf : Int × Int → Option (Int × Mu)} {v1 : Int} {v2 : Int} {v3 : Int} {v4 : Int} {v6 : Int} {u : Mu} (kh : Int → Int → Int → Option (Int × Int)) (hkh : ∀ (z7 : Int) (z9 : Int) (z11 : Int), ((kh z7 z9 z11).bind Kf = some r) → J5 G l D5_due a (some (pL r.1)) r.2 u 99 [(0, pR (some G.1)), (1, pI v1), (2, pI v2), (3, pI v3), (4, pI v4), (6, pI v6), (7, pL z7), (9, pL z9), (11, pI z11)] []) (hK0 : ∀ q : Int × Int, Kf q = some r → J5 G l D5_due a (some (pL r.1)) r.2 u 183 [(0, pR (some G.1)), (1, pI v1), (2, pI v2), (3, pI v3), (4, pI v4), (6, pI v6), (7, pL q.1), (9, pL q.2)] []) (v9 : Int) (v11 : Int) (s0 : Int) (s1 : Int) (hf : (m5_due_b174 kh v1 v2 v3 v4 v6 v9 v11 s0 s1 u).bind Kf = some r) : J5 G l D5_due a (some (pL r.1)) r.2 u 174 [(0, pR (some G.1)), (1, pI v1), (2, pI v2), (3, pI v3), (4, pI v4), (6, pI v6), (9, pL v9), (11, pI v11)] [pL s1, pL s0] := by
  unfold m5_due_b174 at hf
  refine j_ladd dX5_due_174 ?_
  refine j_lstore dX5_due_175 [(7, pL (s0 + s1)), (0, pR (some G.1)), (1, pI v1), (2, pI v2), (3, pI v3), (4, pI v4), (6, pI v6), (9, pL v9), (11, pI v11)] (Nat.le_of_ble_eq_true rfl) rfl ?_
  refine j_iinc dX5_due_177 8 rfl [(11, pI (v11 + 1)), (7, pL (s0 + s1)), (0, pR (some G.1)), (1, pI v1), (2, pI v2), (3, pI v3), (4, pI v4), (6, pI v6), (9, pL v9)] (Nat.le_of_ble_eq_true rfl) rfl ?_
  refine j_goto 99 dX5_due_180 (by decide) ?_
  exact j_sub [2, 3, 4, 5, 6, 7, 1, 8, 0] _ rfl (hkh (s0 + s1) v9 (v11 + 1) hf)
theorem c5_due_l99 {G : MG} {l : Launch} {a : List PV} {r : Int × Mu} {Kf : Int × Int → Option (Int × Mu)} (v1 : Int) (v2 : Int) (v3 : Int) (v4 : Int) (v6 : Int) (u : Mu) (hK0 : ∀ q : Int × Int, Kf q = some r → J5 G l D5_due a (some (pL r.1)) r.2 u 183 [(0, pR (some G.1)), (1, pI v1), (2, pI v2), (3, pI v3), (4, pI v4), (6, pI v6), (7, pL q.1), (9, pL q.2)] []) : ∀ (n : Nat) (v7 : Int) (v9 : Int) (v11 : Int), ((m5_due_l99 v1 v2 v3 v4 v6 u n v7 v9 v11).bind Kf = some r) → J5 G l D5_due a (some (pL r.1)) r.2 u 99 [(0, pR (some G.1)), (1, pI v1), (2, pI v2), (3, pI v3), (4, pI v4), (6, pI v6), (7, pL v7), (9, pL v9), (11, pI v11)] [] := by
  intro n
  induction n with
  | zero => intro v7 v9 v11 hf; exact onb hf
  | succ n ih =>
    intro v7 v9 v11 hf
    unfold m5_due_l99 at hf
    refine j_iload dX5_due_99 8 rfl ?_
    refine j_aload_n dX5_due_101 0 rfl ?_
    refine m_geti mf_87 rfl dX5_due_102 ?_
    refine j_icmp_gt (w32 v11) (w32 (u.1 87)) rfl rfl 183 dX5_due_105 (by decide) (fun h9 => ?_) (fun h9 => ?_)
    · replace hf := itb h9 hf
      exact j_sub [0, 1, 2, 3, 4, 5, 6, 7] _ rfl (hK0 (v7, v9) hf)
    · replace hf := ieb h9 hf
      refine j_aload_n dX5_due_108 0 rfl ?_
      refine m_geta mf_88 rfl dX5_due_109 ?_
      refine j_iload dX5_due_112 8 rfl ?_
      obtain ⟨x1, hx1, hf⟩ := obb hf
      refine m_iald mr_88 hx1 dX5_due_114 ?_
      refine j_iload_n dX5_due_115 3 rfl ?_
      refine j_icmp_ne (w32 x1) (w32 v3) rfl rfl 177 dX5_due_116 (by decide) (fun h8 => ?_) (fun h8 => ?_)
      · replace hf := ieb h8 hf
        refine j_iinc dX5_due_177 8 rfl [(11, pI (v11 + 1)), (0, pR (some G.1)), (1, pI v1), (2, pI v2), (3, pI v3), (4, pI v4), (6, pI v6), (7, pL v7), (9, pL v9)] (Nat.le_of_ble_eq_true rfl) rfl ?_
        refine j_goto 99 dX5_due_180 (by decide) ?_
        exact j_sub [1, 2, 3, 4, 5, 6, 7, 8, 0] _ rfl (ih v7 v9 (v11 + 1) hf)
      · replace hf := itb h8 hf
        refine j_aload_n dX5_due_119 0 rfl ?_
        refine m_geta mf_96 rfl dX5_due_120 ?_
        refine j_iload dX5_due_123 8 rfl ?_
        obtain ⟨x2, hx2, hf⟩ := obb hf
        refine m_zald mr_96 hx2 dX5_due_125 ?_
        refine j_if_eq (w32 x2) rfl 177 dX5_due_126 (by decide) (fun h7 => ?_) (fun h7 => ?_)
        · replace hf := itb h7 hf
          refine j_iinc dX5_due_177 8 rfl [(11, pI (v11 + 1)), (0, pR (some G.1)), (1, pI v1), (2, pI v2), (3, pI v3), (4, pI v4), (6, pI v6), (7, pL v7), (9, pL v9)] (Nat.le_of_ble_eq_true rfl) rfl ?_
          refine j_goto 99 dX5_due_180 (by decide) ?_
          exact j_sub [1, 2, 3, 4, 5, 6, 7, 8, 0] _ rfl (ih v7 v9 (v11 + 1) hf)
        · replace hf := ieb h7 hf
          refine j_lload dX5_due_129 7 rfl ?_
          refine j_aload_n dX5_due_131 0 rfl ?_
          refine m_geta mf_95 rfl dX5_due_132 ?_
          refine j_iload dX5_due_135 8 rfl ?_
          obtain ⟨x3, hx3, hf⟩ := obb hf
          refine m_lald mr_95 hx3 dX5_due_137 ?_
          refine j_ladd dX5_due_138 ?_
          refine j_lstore dX5_due_139 [(9, pL (v9 + x3)), (0, pR (some G.1)), (1, pI v1), (2, pI v2), (3, pI v3), (4, pI v4), (6, pI v6), (7, pL v7), (11, pI v11)] (Nat.le_of_ble_eq_true rfl) rfl ?_
          refine j_lload dX5_due_141 7 rfl ?_
          refine j_aload_n dX5_due_143 1 rfl ?_
          refine m_geta mf_90 rfl dX5_due_144 ?_
          refine j_iload dX5_due_147 8 rfl ?_
          obtain ⟨x4, hx4, hf⟩ := obb hf
          refine m_iald mr_90 hx4 dX5_due_149 ?_
          refine j_sipush dX5_due_150 (by decide) ?_
          refine j_idiv dX5_due_153 (by decide) ?_
          refine j_iload dX5_due_154 5 rfl ?_
          refine j_sipush dX5_due_156 (by decide) ?_
          refine j_idiv dX5_due_159 (by decide) ?_
          refine j_icmp_ne (w32 (div32 x4 365)) (w32 (div32 v4 365)) rfl rfl 173 dX5_due_160 (by decide) (fun h6 => ?_) (fun h6 => ?_)
          · replace hf := ieb h6 hf
            refine j_lconst (z := 0) dX5_due_173 rfl ?_
            exact j_sub [1, 2, 3, 4, 5, 6, 0, 8] _ rfl (c5_due_b174 (m5_due_l99 v1 v2 v3 v4 v6 u n) ih hK0 (v9 + x3) v11 v7 0 hf)
          · replace hf := itb h6 hf
            refine j_aload_n dX5_due_163 1 rfl ?_
            refine m_geta mf_95 rfl dX5_due_164 ?_
            refine j_iload dX5_due_167 8 rfl ?_
            obtain ⟨x5, hx5, hf⟩ := obb hf
            refine m_lald mr_95 hx5 dX5_due_169 ?_
            refine j_goto 174 dX5_due_170 (by decide) ?_
            exact j_sub [1, 2, 3, 4, 5, 6, 0, 8] _ rfl (c5_due_b174 (m5_due_l99 v1 v2 v3 v4 v6 u n) ih hK0 (v9 + x3) v11 v7 x5 hf)
theorem c5_due_b378 {G : MG} {l : Launch} {a : List PV} {r : Int × Mu} (v2 : Int) (v3 : Int) (v4 : Int) (v9 : Int) (s0 : Int) (u : Mu) (hf : m5_due_b378 v2 v3 v4 v9 s0 u = some r) : J5 G l D5_due a (some (pL r.1)) r.2 u 378 [(0, pR (some G.1)), (2, pI v2), (3, pI v3), (4, pI v4), (9, pL v9)] [pL s0] := by
  unfold m5_due_b378 at hf
  refine j_lstore dX5_due_378 [(12, pL s0), (0, pR (some G.1)), (2, pI v2), (3, pI v3), (4, pI v4), (9, pL v9)] (Nat.le_of_ble_eq_true rfl) rfl ?_
  refine j_lload dX5_due_380 0 rfl ?_
  refine j_aload_n dX5_due_382 1 rfl ?_
  refine j_iload_n dX5_due_383 3 rfl ?_
  refine j_iconst dX5_due_384 ?_
  refine j_iload dX5_due_385 4 rfl ?_
  refine j_iload_n dX5_due_387 2 rfl ?_
  obtain ⟨x1, hx1, hf⟩ := ob hf
  refine j_cVr [pI v3, pI 1, pI v4, pI v2] [pL s0] kT_v (bM_mv G) (c5_held v3 1 v4 v2 u hx1) wv5_held dv5_held rfl ⟨(Nat.le_of_ble_eq_true rfl), (Nat.le_of_ble_eq_true rfl)⟩ (m_recv u) rfl (Nat.le_of_ble_eq_true rfl) dX5_due_388 ⟨Nat.le_refl 0, Nat.le_refl 0⟩ ?_
  refine j_i2l dX5_due_391 ?_
  refine j_lload dX5_due_392 5 rfl ?_
  refine j_lsub dX5_due_394 ?_
  obtain ⟨x2, hx2, hf⟩ := ob hf
  refine j_cSr [pL s0, pL ((w32 x1) - v9)] [] kT_v (bM_mv G) (c5_lesser s0 ((w32 x1) - v9) u hx2) wv5_lesser dv5_lesser rfl ⟨(Nat.le_of_ble_eq_true rfl), (Nat.le_of_ble_eq_true rfl)⟩ rfl (Nat.le_of_ble_eq_true rfl) dX5_due_395 ⟨Nat.le_refl 0, Nat.le_refl 0⟩ ?_
  refine j_lstore dX5_due_398 [(12, pL x2), (0, pR (some G.1)), (2, pI v2), (3, pI v3), (4, pI v4), (9, pL v9)] (Nat.le_of_ble_eq_true rfl) rfl ?_
  refine j_lload dX5_due_400 0 rfl ?_
  refine j_lconst (z := 0) dX5_due_402 rfl ?_
  refine j_lc_ge 411 dX5_due_403 dX5_due_404 (by decide) (fun h3 => ?_) (fun h3 => ?_)
  · replace hf := it h3 hf
    refine j_lload dX5_due_411 0 rfl ?_
    replace hf := Option.some.inj hf
    subst hf
    exact j_lreturn (bM_mv G) ⟨Nat.le_refl 0, Nat.le_refl 0⟩ rfl dX5_due_413
  · replace hf := ie h3 hf
    refine j_lconst (z := 0) dX5_due_407 rfl ?_
    refine j_goto 413 dX5_due_408 (by decide) ?_
    replace hf := Option.some.inj hf
    subst hf
    exact j_lreturn (bM_mv G) ⟨Nat.le_refl 0, Nat.le_refl 0⟩ rfl dX5_due_413
theorem c5_due_b341 {G : MG} {l : Launch} {a : List PV} {r : Int × Mu} (v2 : Int) (v3 : Int) (v4 : Int) (v9 : Int) (v11 : Int) (s0 : Int) (u : Mu) (hf : m5_due_b341 v2 v3 v4 v9 v11 s0 u = some r) : J5 G l D5_due a (some (pL r.1)) r.2 u 341 [(0, pR (some G.1)), (2, pI v2), (3, pI v3), (4, pI v4), (9, pL v9), (11, pI v11)] [pL s0] := by
  unfold m5_due_b341 at hf
  refine j_lstore dX5_due_341 [(12, pL s0), (0, pR (some G.1)), (2, pI v2), (3, pI v3), (4, pI v4), (9, pL v9), (11, pI v11)] (Nat.le_of_ble_eq_true rfl) rfl ?_
  refine j_aload_n dX5_due_343 1 rfl ?_
  refine m_geta mf_32 rfl dX5_due_344 ?_
  refine j_iload dX5_due_347 6 rfl ?_
  refine j_iconst dX5_due_349 ?_
  refine j_iadd dX5_due_350 ?_
  obtain ⟨x1, hx1, hf⟩ := ob hf
  refine m_iald mr_32 hx1 dX5_due_351 ?_
  refine j_if_ge (w32 x1) rfl 360 dX5_due_352 (by decide) (fun h4 => ?_) (fun h4 => ?_)
  · replace hf := it h4 hf
    refine j_lload dX5_due_360 0 rfl ?_
    refine j_aload_n dX5_due_362 1 rfl ?_
    refine m_geta mf_32 rfl dX5_due_363 ?_
    refine j_iload dX5_due_366 6 rfl ?_
    refine j_iconst dX5_due_368 ?_
    refine j_iadd dX5_due_369 ?_
    obtain ⟨x2, hx2, hf⟩ := ob hf
    refine m_iald mr_32 hx2 dX5_due_370 ?_
    refine j_i2l dX5_due_371 ?_
    refine j_lload dX5_due_372 5 rfl ?_
    refine j_lsub dX5_due_374 ?_
    obtain ⟨x3, hx3, hf⟩ := ob hf
    refine j_cSr [pL s0, pL ((w32 x2) - v9)] [] kT_v (bM_mv G) (c5_lesser s0 ((w32 x2) - v9) u hx3) wv5_lesser dv5_lesser rfl ⟨(Nat.le_of_ble_eq_true rfl), (Nat.le_of_ble_eq_true rfl)⟩ rfl (Nat.le_of_ble_eq_true rfl) dX5_due_375 ⟨Nat.le_refl 0, Nat.le_refl 0⟩ ?_
    exact j_sub [1, 2, 3, 4, 5] _ rfl (c5_due_b378 v2 v3 v4 v9 x3 u hf)
  · replace hf := ie h4 hf
    refine j_lload dX5_due_355 0 rfl ?_
    refine j_goto 378 dX5_due_357 (by decide) ?_
    exact j_sub [1, 2, 3, 4, 5] _ rfl (c5_due_b378 v2 v3 v4 v9 s0 u hf)
theorem c5_due_b304 {G : MG} {l : Launch} {a : List PV} {r : Int × Mu} (v2 : Int) (v3 : Int) (v4 : Int) (v7 : Int) (v9 : Int) (v11 : Int) (s0 : Int) (u : Mu) (hf : m5_due_b304 v2 v3 v4 v7 v9 v11 s0 u = some r) : J5 G l D5_due a (some (pL r.1)) r.2 u 304 [(0, pR (some G.1)), (2, pI v2), (3, pI v3), (4, pI v4), (7, pL v7), (9, pL v9), (11, pI v11)] [pL s0] := by
  unfold m5_due_b304 at hf
  refine j_lstore dX5_due_304 [(12, pL s0), (0, pR (some G.1)), (2, pI v2), (3, pI v3), (4, pI v4), (7, pL v7), (9, pL v9), (11, pI v11)] (Nat.le_of_ble_eq_true rfl) rfl ?_
  refine j_aload_n dX5_due_306 1 rfl ?_
  refine m_geta mf_32 rfl dX5_due_307 ?_
  refine j_iload dX5_due_310 7 rfl ?_
  refine j_iconst dX5_due_312 ?_
  refine j_iadd dX5_due_313 ?_
  obtain ⟨x1, hx1, hf⟩ := ob hf
  refine m_iald mr_32 hx1 dX5_due_314 ?_
  refine j_if_ge (w32 x1) rfl 323 dX5_due_315 (by decide) (fun h4 => ?_) (fun h4 => ?_)
  · replace hf := it h4 hf
    refine j_lload dX5_due_323 0 rfl ?_
    refine j_aload_n dX5_due_325 1 rfl ?_
    refine m_geta mf_32 rfl dX5_due_326 ?_
    refine j_iload dX5_due_329 7 rfl ?_
    refine j_iconst dX5_due_331 ?_
    refine j_iadd dX5_due_332 ?_
    obtain ⟨x2, hx2, hf⟩ := ob hf
    refine m_iald mr_32 hx2 dX5_due_333 ?_
    refine j_i2l dX5_due_334 ?_
    refine j_lload dX5_due_335 5 rfl ?_
    refine j_lsub dX5_due_337 ?_
    obtain ⟨x3, hx3, hf⟩ := ob hf
    refine j_cSr [pL s0, pL ((w32 x2) - v7)] [] kT_v (bM_mv G) (c5_lesser s0 ((w32 x2) - v7) u hx3) wv5_lesser dv5_lesser rfl ⟨(Nat.le_of_ble_eq_true rfl), (Nat.le_of_ble_eq_true rfl)⟩ rfl (Nat.le_of_ble_eq_true rfl) dX5_due_338 ⟨Nat.le_refl 0, Nat.le_refl 0⟩ ?_
    exact j_sub [1, 2, 3, 4, 6, 7] _ rfl (c5_due_b341 v2 v3 v4 v9 v11 x3 u hf)
  · replace hf := ie h4 hf
    refine j_lload dX5_due_318 0 rfl ?_
    refine j_goto 341 dX5_due_320 (by decide) ?_
    exact j_sub [1, 2, 3, 4, 6, 7] _ rfl (c5_due_b341 v2 v3 v4 v9 v11 s0 u hf)
theorem c5_due_b264 {G : MG} {l : Launch} {a : List PV} {r : Int × Mu} (v2 : Int) (v3 : Int) (v4 : Int) (v7 : Int) (v9 : Int) (v11 : Int) (s0 : Int) (s1 : Int) (u : Mu) (hf : m5_due_b264 v2 v3 v4 v7 v9 v11 s0 s1 u = some r) : J5 G l D5_due a (some (pL r.1)) r.2 u 264 [(0, pR (some G.1)), (2, pI v2), (3, pI v3), (4, pI v4), (7, pL v7), (9, pL v9), (11, pI v11)] [pI s1, pL s0] := by
  unfold m5_due_b264 at hf
  refine j_i2l dX5_due_264 ?_
  refine j_lmul dX5_due_265 ?_
  refine j_ldc2 (z := 1000) q2546 (by decide) dX5_due_266 ?_
  refine j_ldiv dX5_due_269 (by decide) ?_
  refine j_lstore dX5_due_270 [(12, pL (div64 (s0 * (w32 s1)) 1000)), (0, pR (some G.1)), (2, pI v2), (3, pI v3), (4, pI v4), (7, pL v7), (9, pL v9), (11, pI v11)] (Nat.le_of_ble_eq_true rfl) rfl ?_
  refine j_aload_n dX5_due_272 1 rfl ?_
  refine m_geta mf_32 rfl dX5_due_273 ?_
  refine j_iload dX5_due_276 7 rfl ?_
  refine j_iconst dX5_due_278 ?_
  refine j_iadd dX5_due_279 ?_
  obtain ⟨x1, hx1, hf⟩ := ob hf
  refine m_iald mr_32 hx1 dX5_due_280 ?_
  refine j_if_ge (w32 x1) rfl 289 dX5_due_281 (by decide) (fun h4 => ?_) (fun h4 => ?_)
  · replace hf := it h4 hf
    refine j_lload dX5_due_289 0 rfl ?_
    refine j_aload_n dX5_due_291 1 rfl ?_
    refine m_geta mf_32 rfl dX5_due_292 ?_
    refine j_iload dX5_due_295 7 rfl ?_
    refine j_iconst dX5_due_297 ?_
    refine j_iadd dX5_due_298 ?_
    obtain ⟨x2, hx2, hf⟩ := ob hf
    refine m_iald mr_32 hx2 dX5_due_299 ?_
    refine j_i2l dX5_due_300 ?_
    obtain ⟨x3, hx3, hf⟩ := ob hf
    refine j_cSr [pL (div64 (s0 * (w32 s1)) 1000), pL (w32 x2)] [] kT_v (bM_mv G) (c5_lesser (div64 (s0 * (w32 s1)) 1000) (w32 x2) u hx3) wv5_lesser dv5_lesser rfl ⟨(Nat.le_of_ble_eq_true rfl), (Nat.le_of_ble_eq_true rfl)⟩ rfl (Nat.le_of_ble_eq_true rfl) dX5_due_301 ⟨Nat.le_refl 0, Nat.le_refl 0⟩ ?_
    exact j_sub [1, 2, 3, 4, 5, 6, 7] _ rfl (c5_due_b304 v2 v3 v4 v7 v9 v11 x3 u hf)
  · replace hf := ie h4 hf
    refine j_lload dX5_due_284 0 rfl ?_
    refine j_goto 304 dX5_due_286 (by decide) ?_
    exact j_sub [1, 2, 3, 4, 5, 6, 7] _ rfl (c5_due_b304 v2 v3 v4 v7 v9 v11 (div64 (s0 * (w32 s1)) 1000) u hf)
theorem c5_due_b233 {G : MG} {l : Launch} {a : List PV} {r : Int × Mu} (v2 : Int) (v3 : Int) (v4 : Int) (v7 : Int) (v9 : Int) (v11 : Int) (s0 : Int) (u : Mu) (hf : m5_due_b233 v2 v3 v4 v7 v9 v11 s0 u = some r) : J5 G l D5_due a (some (pL r.1)) r.2 u 233 [(0, pR (some G.1)), (2, pI v2), (3, pI v3), (4, pI v4), (7, pL v7), (9, pL v9), (11, pI v11)] [pL s0] := by
  unfold m5_due_b233 at hf
  refine j_lstore dX5_due_233 [(12, pL s0), (0, pR (some G.1)), (2, pI v2), (3, pI v3), (4, pI v4), (7, pL v7), (9, pL v9), (11, pI v11)] (Nat.le_of_ble_eq_true rfl) rfl ?_
  refine j_lload dX5_due_235 0 rfl ?_
  refine j_aload_n dX5_due_237 1 rfl ?_
  refine m_geta mf_32 rfl dX5_due_238 ?_
  refine j_iload dX5_due_241 7 rfl ?_
  refine j_iconst dX5_due_243 ?_
  refine j_iadd dX5_due_244 ?_
  obtain ⟨x1, hx1, hf⟩ := ob hf
  refine m_iald mr_32 hx1 dX5_due_245 ?_
  refine j_if_ge (w32 x1) rfl 255 dX5_due_246 (by decide) (fun h3 => ?_) (fun h3 => ?_)
  · replace hf := it h3 hf
    refine j_aload_n dX5_due_255 1 rfl ?_
    refine m_geta mf_32 rfl dX5_due_256 ?_
    refine j_iload dX5_due_259 7 rfl ?_
    refine j_iconst dX5_due_261 ?_
    refine j_iadd dX5_due_262 ?_
    obtain ⟨x2, hx2, hf⟩ := ob hf
    refine m_iald mr_32 hx2 dX5_due_263 ?_
    exact j_sub [1, 2, 3, 4, 5, 6, 7] _ rfl (c5_due_b264 v2 v3 v4 v7 v9 v11 s0 x2 u hf)
  · replace hf := ie h3 hf
    refine j_sipush dX5_due_249 (by decide) ?_
    refine j_goto 264 dX5_due_252 (by decide) ?_
    exact j_sub [1, 2, 3, 4, 5, 6, 7] _ rfl (c5_due_b264 v2 v3 v4 v7 v9 v11 s0 1000 u hf)
theorem c5_due_b216 {G : MG} {l : Launch} {a : List PV} {r : Int × Mu} (v2 : Int) (v3 : Int) (v4 : Int) (v7 : Int) (v9 : Int) (v11 : Int) (s0 : Int) (s1 : Int) (u : Mu) (hf : m5_due_b216 v2 v3 v4 v7 v9 v11 s0 s1 u = some r) : J5 G l D5_due a (some (pL r.1)) r.2 u 216 [(0, pR (some G.1)), (2, pI v2), (3, pI v3), (4, pI v4), (7, pL v7), (9, pL v9), (11, pI v11)] [pI s1, pI s0] := by
  unfold m5_due_b216 at hf
  refine j_isub dX5_due_216 ?_
  refine j_i2l dX5_due_217 ?_
  refine j_lstore dX5_due_218 [(12, pL (w32 (s0 - s1))), (0, pR (some G.1)), (2, pI v2), (3, pI v3), (4, pI v4), (7, pL v7), (9, pL v9), (11, pI v11)] (Nat.le_of_ble_eq_true rfl) rfl ?_
  refine j_lload dX5_due_220 0 rfl ?_
  refine j_lconst (z := 0) dX5_due_222 rfl ?_
  refine j_lc_ge 231 dX5_due_223 dX5_due_224 (by decide) (fun h1 => ?_) (fun h1 => ?_)
  · replace hf := it h1 hf
    refine j_lload dX5_due_231 0 rfl ?_
    exact j_sub [1, 2, 3, 4, 5, 6, 7] _ rfl (c5_due_b233 v2 v3 v4 v7 v9 v11 (w32 (s0 - s1)) u hf)
  · replace hf := ie h1 hf
    refine j_lconst (z := 0) dX5_due_227 rfl ?_
    refine j_goto 233 dX5_due_228 (by decide) ?_
    exact j_sub [1, 2, 3, 4, 5, 6, 7] _ rfl (c5_due_b233 v2 v3 v4 v7 v9 v11 0 u hf)
theorem c5_due {G : MG} {l : Launch} {r : Int × Mu} (v1 : Int) (v2 : Int) (u : Mu) (hf : m5_due v1 v2 u = some r) : JM kT (bM G) (aM G) l yX5_due D5_due [pR (some G.1), pI v1, pI v2] u (some (pL r.1)) r.2 0 0 := by
  refine j_met (lv0 := [(0, pR (some G.1)), (1, pI v1), (2, pI v2)]) ⟨pl_X5, rfl, rfl, (Nat.le_of_ble_eq_true rfl), rfl⟩ ?_
  unfold m5_due at hf
  refine j_aload_n dX5_due_0 0 rfl ?_
  refine m_geta mf_88 rfl dX5_due_1 ?_
  refine j_iload_n dX5_due_4 1 rfl ?_
  obtain ⟨x1, hx1, hf⟩ := ob hf
  refine m_iald mr_88 hx1 dX5_due_5 ?_
  refine j_istore_n dX5_due_6 [(3, pI x1), (0, pR (some G.1)), (1, pI v1), (2, pI v2)] (Nat.le_of_ble_eq_true rfl) rfl ?_
  refine j_aload_n dX5_due_7 1 rfl ?_
  refine m_geta mf_90 rfl dX5_due_8 ?_
  refine j_iload_n dX5_due_11 2 rfl ?_
  obtain ⟨x2, hx2, hf⟩ := ob hf
  refine m_iald mr_90 hx2 dX5_due_12 ?_
  refine j_istore dX5_due_13 [(4, pI x2), (3, pI x1), (0, pR (some G.1)), (1, pI v1), (2, pI v2)] (Nat.le_of_ble_eq_true rfl) rfl ?_
  refine j_aload_n dX5_due_15 2 rfl ?_
  refine m_geta mf_89 rfl dX5_due_16 ?_
  refine j_iload_n dX5_due_19 3 rfl ?_
  obtain ⟨x3, hx3, hf⟩ := ob hf
  refine m_iald mr_89 hx3 dX5_due_20 ?_
  refine j_istore dX5_due_21 [(5, pI x3), (4, pI x2), (3, pI x1), (0, pR (some G.1)), (1, pI v1), (2, pI v2)] (Nat.le_of_ble_eq_true rfl) rfl ?_
  refine j_aload_n dX5_due_23 3 rfl ?_
  refine j_iload_n dX5_due_24 2 rfl ?_
  refine j_iconst dX5_due_25 ?_
  refine j_iload dX5_due_26 1 rfl ?_
  refine j_iload_n dX5_due_28 5 rfl ?_
  obtain ⟨x4, hx4, hf⟩ := ob hf
  refine j_cVr [pI x1, pI 0, pI x2, pI v2] [] kT_v (bM_mv G) (c5_held x1 0 x2 v2 u hx4) wv5_held dv5_held rfl ⟨(Nat.le_of_ble_eq_true rfl), (Nat.le_of_ble_eq_true rfl)⟩ (m_recv u) rfl (Nat.le_of_ble_eq_true rfl) dX5_due_29 ⟨Nat.le_refl 0, Nat.le_refl 0⟩ ?_
  refine j_istore dX5_due_32 [(6, pI x4), (5, pI x3), (4, pI x2), (3, pI x1), (0, pR (some G.1)), (1, pI v1), (2, pI v2)] (Nat.le_of_ble_eq_true rfl) rfl ?_
  refine j_aload_n dX5_due_34 4 rfl ?_
  refine j_iload_n dX5_due_35 3 rfl ?_
  refine j_iconst dX5_due_36 ?_
  refine j_iload dX5_due_37 2 rfl ?_
  refine j_iload_n dX5_due_39 6 rfl ?_
  obtain ⟨x5, hx5, hf⟩ := ob hf
  refine j_cVr [pI x1, pI 2, pI x2, pI v2] [] kT_v (bM_mv G) (c5_held x1 2 x2 v2 u hx5) wv5_held dv5_held rfl ⟨(Nat.le_of_ble_eq_true rfl), (Nat.le_of_ble_eq_true rfl)⟩ (m_recv u) rfl (Nat.le_of_ble_eq_true rfl) dX5_due_40 ⟨Nat.le_refl 0, Nat.le_refl 0⟩ ?_
  refine j_if_eq (w32 x5) rfl 67 dX5_due_43 (by decide) (fun h18 => ?_) (fun h18 => ?_)
  · replace hf := it h18 hf
    refine j_lconst (z := 0) dX5_due_67 rfl ?_
    replace hf := Option.some.inj hf
    subst hf
    exact j_lreturn (bM_mv G) ⟨Nat.le_refl 0, Nat.le_refl 0⟩ rfl dX5_due_68
  · replace hf := ie h18 hf
    refine j_iload dX5_due_46 0 rfl ?_
    refine j_if_eq (w32 x4) rfl 67 dX5_due_48 (by decide) (fun h17 => ?_) (fun h17 => ?_)
    · replace hf := it h17 hf
      refine j_lconst (z := 0) dX5_due_67 rfl ?_
      replace hf := Option.some.inj hf
      subst hf
      exact j_lreturn (bM_mv G) ⟨Nat.le_refl 0, Nat.le_refl 0⟩ rfl dX5_due_68
    · replace hf := ie h17 hf
      refine j_aload_n dX5_due_51 4 rfl ?_
      refine j_iload dX5_due_52 0 rfl ?_
      refine j_aload_n dX5_due_54 4 rfl ?_
      refine m_geta mf_72 rfl dX5_due_55 ?_
      refine j_iload dX5_due_58 1 rfl ?_
      obtain ⟨x6, hx6, hf⟩ := ob hf
      refine m_iald mr_72 hx6 dX5_due_60 ?_
      obtain ⟨x7, hx7, hf⟩ := ob hf
      refine j_cVr [pI x4, pI x6] [] kT_v (bM_mv G) (c5_isComparable x4 x6 u hx7) wv5_isComparable dv5_isComparable rfl ⟨(Nat.le_of_ble_eq_true rfl), (Nat.le_of_ble_eq_true rfl)⟩ (m_recv u) rfl (Nat.le_of_ble_eq_true rfl) dX5_due_61 ⟨Nat.le_refl 0, Nat.le_refl 0⟩ ?_
      refine j_if_ne (w32 x7) rfl 69 dX5_due_64 (by decide) (fun h16 => ?_) (fun h16 => ?_)
      · replace hf := ie h16 hf
        refine j_aload_n dX5_due_69 4 rfl ?_
        refine j_iload dX5_due_70 0 rfl ?_
        refine j_iload dX5_due_72 1 rfl ?_
        refine j_iload_n dX5_due_74 6 rfl ?_
        obtain ⟨u8, hu8, hf⟩ := ob hf
        refine j_cVv [pI x4, pI x3, pI v2] [] kT_v (bM_mv G) (c5_takeDigits x4 x3 v2 u hu8) wv5_takeDigits dv5_takeDigits rfl ⟨(Nat.le_of_ble_eq_true rfl), (Nat.le_of_ble_eq_true rfl)⟩ (m_recv u) rfl (Nat.le_of_ble_eq_true rfl) dX5_due_75 ⟨Nat.le_refl 0, Nat.le_refl 0⟩ ?_
        refine j_aload_n dX5_due_78 4 rfl ?_
        refine j_iload dX5_due_79 0 rfl ?_
        obtain ⟨q9, hq9, hf⟩ := ob hf
        refine j_cVr [pI x4] [] kT_v (bM_mv G) (c5_settled x4 u8 hq9) wv5_settled dv5_settled rfl ⟨(Nat.le_of_ble_eq_true rfl), (Nat.le_of_ble_eq_true rfl)⟩ (m_recv u8) rfl (Nat.le_of_ble_eq_true rfl) dX5_due_81 ⟨Nat.le_refl 0, Nat.le_refl 0⟩ ?_
        refine j_iconst dX5_due_84 ?_
        refine j_icmp_eq (w32 q9.1) 1 rfl rfl 90 dX5_due_85 (by decide) (fun h15 => ?_) (fun h15 => ?_)
        · replace hf := it h15 hf
          refine j_lconst (z := 0) dX5_due_90 rfl ?_
          refine j_lstore dX5_due_91 [(7, pL 0), (6, pI x4), (5, pI x3), (4, pI x2), (3, pI x1), (0, pR (some G.1)), (1, pI v1), (2, pI v2)] (Nat.le_of_ble_eq_true rfl) rfl ?_
          refine j_lconst (z := 0) dX5_due_93 rfl ?_
          refine j_lstore dX5_due_94 [(9, pL 0), (7, pL 0), (6, pI x4), (5, pI x3), (4, pI x2), (3, pI x1), (0, pR (some G.1)), (1, pI v1), (2, pI v2)] (Nat.le_of_ble_eq_true rfl) rfl ?_
          refine j_iconst dX5_due_96 ?_
          refine j_istore dX5_due_97 [(11, pI 1), (9, pL 0), (7, pL 0), (6, pI x4), (5, pI x3), (4, pI x2), (3, pI x1), (0, pR (some G.1)), (1, pI v1), (2, pI v2)] (Nat.le_of_ble_eq_true rfl) rfl ?_
          refine j_sub [7, 8, 9, 6, 5, 3, 2, 1, 0] _ rfl (c5_due_l99 v1 v2 x1 x2 x4 q9.2 ?_ NN 0 0 1 hf)
          · intro q10 hf
            refine j_iconst dX5_due_183 ?_
            refine j_iload dX5_due_184 5 rfl ?_
            refine j_imul dX5_due_186 ?_
            refine j_istore dX5_due_187 [(11, pI (5 * x4)), (0, pR (some G.1)), (1, pI v1), (2, pI v2), (3, pI x1), (4, pI x2), (6, pI x4), (7, pL q10.1), (9, pL q10.2)] (Nat.le_of_ble_eq_true rfl) rfl ?_
            refine j_aload_n dX5_due_189 1 rfl ?_
            refine j_iload_n dX5_due_190 2 rfl ?_
            refine j_iload_n dX5_due_191 3 rfl ?_
            obtain ⟨x11, hx11, hf⟩ := ob hf
            refine j_cVr [pI v1, pI v2] [] kT_v (bM_mv G) (c5_lossAt v1 v2 q9.2 hx11) wv5_lossAt dv5_lossAt rfl ⟨(Nat.le_of_ble_eq_true rfl), (Nat.le_of_ble_eq_true rfl)⟩ (m_recv q9.2) rfl (Nat.le_of_ble_eq_true rfl) dX5_due_192 ⟨Nat.le_refl 0, Nat.le_refl 0⟩ ?_
            refine j_aload_n dX5_due_195 1 rfl ?_
            refine m_geta mf_32 rfl dX5_due_196 ?_
            refine j_iload dX5_due_199 0 rfl ?_
            obtain ⟨x12, hx12, hf⟩ := ob hf
            refine m_iald mr_32 hx12 dX5_due_201 ?_
            refine j_if_ge (w32 x12) rfl 209 dX5_due_202 (by decide) (fun h14 => ?_) (fun h14 => ?_)
            · replace hf := it h14 hf
              refine j_aload_n dX5_due_209 1 rfl ?_
              refine m_geta mf_32 rfl dX5_due_210 ?_
              refine j_iload dX5_due_213 0 rfl ?_
              obtain ⟨x13, hx13, hf⟩ := ob hf
              refine m_iald mr_32 hx13 dX5_due_215 ?_
              exact j_sub [1, 3, 4, 5, 7, 8, 0] _ rfl (c5_due_b216 v2 x1 x2 q10.1 q10.2 (5 * x4) x11 x13 q9.2 hf)
            · replace hf := ie h14 hf
              refine j_iconst dX5_due_205 ?_
              refine j_goto 216 dX5_due_206 (by decide) ?_
              exact j_sub [1, 3, 4, 5, 7, 8, 0] _ rfl (c5_due_b216 v2 x1 x2 q10.1 q10.2 (5 * x4) x11 0 q9.2 hf)
        · replace hf := ie h15 hf
          refine j_lconst (z := 0) dX5_due_88 rfl ?_
          replace hf := Option.some.inj hf
          subst hf
          exact j_lreturn (bM_mv G) ⟨Nat.le_refl 0, Nat.le_refl 0⟩ rfl dX5_due_89
      · replace hf := it h16 hf
        refine j_lconst (z := 0) dX5_due_67 rfl ?_
        replace hf := Option.some.inj hf
        subst hf
        exact j_lreturn (bM_mv G) ⟨Nat.le_refl 0, Nat.le_refl 0⟩ rfl dX5_due_68
theorem c5_payAll_l2 {G : MG} {l : Launch} {a : List PV} {r : Mu} {Kf : Mu → Option (Mu)} (v1 : Int) (v2 : Int) (hK0 : ∀ q : Mu, Kf q = some r → J5 G l D5_payAll a none r q 40 [(0, pR (some G.1)), (1, pI v1), (2, pI v2)] []) : ∀ (n : Nat) (v3 : Int) (u : Mu), ((m5_payAll_l2 v1 v2 n v3 u).bind Kf = some r) → J5 G l D5_payAll a none r u 2 [(0, pR (some G.1)), (1, pI v1), (2, pI v2), (3, pI v3)] [] := by
  intro n
  induction n with
  | zero => intro v3 u hf; exact onb hf
  | succ n ih =>
    intro v3 u hf
    unfold m5_payAll_l2 at hf
    refine j_iload_n dX5_payAll_2 3 rfl ?_
    refine j_aload_n dX5_payAll_3 0 rfl ?_
    refine m_geti mf_87 rfl dX5_payAll_4 ?_
    refine j_icmp_gt (w32 v3) (w32 (u.1 87)) rfl rfl 40 dX5_payAll_7 (by decide) (fun h5 => ?_) (fun h5 => ?_)
    · replace hf := itb h5 hf
      exact j_sub [0, 1, 2] _ rfl (hK0 u hf)
    · replace hf := ieb h5 hf
      refine j_aload_n dX5_payAll_10 0 rfl ?_
      refine m_geta mf_88 rfl dX5_payAll_11 ?_
      refine j_iload_n dX5_payAll_14 3 rfl ?_
      obtain ⟨x1, hx1, hf⟩ := obb hf
      refine m_iald mr_88 hx1 dX5_payAll_15 ?_
      refine j_iload_n dX5_payAll_16 1 rfl ?_
      refine j_icmp_ne (w32 x1) (w32 v1) rfl rfl 34 dX5_payAll_17 (by decide) (fun h4 => ?_) (fun h4 => ?_)
      · replace hf := ieb h4 hf
        refine j_iinc dX5_payAll_34 3 rfl [(3, pI (v3 + 1)), (0, pR (some G.1)), (1, pI v1), (2, pI v2)] (Nat.le_of_ble_eq_true rfl) rfl ?_
        refine j_goto 2 dX5_payAll_37 (by decide) ?_
        exact j_sub [1, 2, 3, 0] _ rfl (ih (v3 + 1) u hf)
      · replace hf := itb h4 hf
        refine j_aload_n dX5_payAll_20 0 rfl ?_
        refine m_geta mf_95 rfl dX5_payAll_21 ?_
        refine j_iload_n dX5_payAll_24 3 rfl ?_
        refine j_lconst (z := 0) dX5_payAll_25 rfl ?_
        obtain ⟨u2, hu2, hf⟩ := obb hf
        refine m_last mr_95 hu2 dX5_payAll_26 ?_
        refine j_aload_n dX5_payAll_27 0 rfl ?_
        refine m_geta mf_96 rfl dX5_payAll_28 ?_
        refine j_iload_n dX5_payAll_31 3 rfl ?_
        refine j_iconst dX5_payAll_32 ?_
        obtain ⟨u3, hu3, hf⟩ := obb hf
        refine m_zast mr_96 hu3 dX5_payAll_33 ?_
        refine j_iinc dX5_payAll_34 3 rfl [(3, pI (v3 + 1)), (0, pR (some G.1)), (1, pI v1), (2, pI v2)] (Nat.le_of_ble_eq_true rfl) rfl ?_
        refine j_goto 2 dX5_payAll_37 (by decide) ?_
        exact j_sub [1, 2, 3, 0] _ rfl (ih (v3 + 1) u3 hf)
theorem c5_payAll_b115 {G : MG} {l : Launch} {a : List PV} {r : Mu} {Kf : Int → Option (Mu)} {v1 : Int} {v2 : Int} {u : Mu} (kh : Int → Int → Option (Int)) (hkh : ∀ (z4 : Int) (z5 : Int), ((kh z4 z5).bind Kf = some r) → J5 G l D5_payAll a none r u 52 [(0, pR (some G.1)), (1, pI v1), (2, pI v2), (4, pI z4), (5, pI z5)] []) (hK0 : ∀ q : Int, Kf q = some r → J5 G l D5_payAll a none r u 125 [(0, pR (some G.1)), (1, pI v1), (2, pI v2), (4, pI q)] []) (v5 : Int) (hf : (m5_payAll_b115 kh v1 v2 v5 u).bind Kf = some r) : J5 G l D5_payAll a none r u 115 [(0, pR (some G.1)), (1, pI v1), (2, pI v2), (5, pI v5)] [] := by
  unfold m5_payAll_b115 at hf
  refine j_iload dX5_payAll_115 3 rfl ?_
  refine j_istore dX5_payAll_117 [(4, pI v5), (0, pR (some G.1)), (1, pI v1), (2, pI v2), (5, pI v5)] (Nat.le_of_ble_eq_true rfl) rfl ?_
  refine j_iinc dX5_payAll_119 4 rfl [(5, pI (v5 + 1)), (4, pI v5), (0, pR (some G.1)), (1, pI v1), (2, pI v2)] (Nat.le_of_ble_eq_true rfl) rfl ?_
  refine j_goto 52 dX5_payAll_122 (by decide) ?_
  exact j_sub [2, 3, 4, 1, 0] _ rfl (hkh v5 (v5 + 1) hf)
theorem c5_payAll_l52 {G : MG} {l : Launch} {a : List PV} {r : Mu} {Kf : Int → Option (Mu)} (v1 : Int) (v2 : Int) (u : Mu) (hK0 : ∀ q : Int, Kf q = some r → J5 G l D5_payAll a none r u 125 [(0, pR (some G.1)), (1, pI v1), (2, pI v2), (4, pI q)] []) : ∀ (n : Nat) (v4 : Int) (v5 : Int), ((m5_payAll_l52 v1 v2 u n v4 v5).bind Kf = some r) → J5 G l D5_payAll a none r u 52 [(0, pR (some G.1)), (1, pI v1), (2, pI v2), (4, pI v4), (5, pI v5)] [] := by
  intro n
  induction n with
  | zero => intro v4 v5 hf; exact onb hf
  | succ n ih =>
    intro v4 v5 hf
    unfold m5_payAll_l52 at hf
    refine j_iload dX5_payAll_52 4 rfl ?_
    refine j_aload_n dX5_payAll_54 0 rfl ?_
    refine m_geti mf_87 rfl dX5_payAll_55 ?_
    refine j_icmp_gt (w32 v5) (w32 (u.1 87)) rfl rfl 125 dX5_payAll_58 (by decide) (fun h11 => ?_) (fun h11 => ?_)
    · replace hf := itb h11 hf
      exact j_sub [0, 1, 2, 3] _ rfl (hK0 v4 hf)
    · replace hf := ieb h11 hf
      refine j_aload_n dX5_payAll_61 0 rfl ?_
      refine m_geta mf_88 rfl dX5_payAll_62 ?_
      refine j_iload dX5_payAll_65 4 rfl ?_
      obtain ⟨x1, hx1, hf⟩ := obb hf
      refine m_iald mr_88 hx1 dX5_payAll_67 ?_
      refine j_iload_n dX5_payAll_68 1 rfl ?_
      refine j_icmp_ne (w32 x1) (w32 v1) rfl rfl 119 dX5_payAll_69 (by decide) (fun h10 => ?_) (fun h10 => ?_)
      · replace hf := ieb h10 hf
        refine j_iinc dX5_payAll_119 4 rfl [(5, pI (v5 + 1)), (0, pR (some G.1)), (1, pI v1), (2, pI v2), (4, pI v4)] (Nat.le_of_ble_eq_true rfl) rfl ?_
        refine j_goto 52 dX5_payAll_122 (by decide) ?_
        exact j_sub [1, 2, 3, 4, 0] _ rfl (ih v4 (v5 + 1) hf)
      · replace hf := itb h10 hf
        refine j_aload_n dX5_payAll_72 0 rfl ?_
        refine m_geta mf_96 rfl dX5_payAll_73 ?_
        refine j_iload dX5_payAll_76 4 rfl ?_
        obtain ⟨x2, hx2, hf⟩ := obb hf
        refine m_zald mr_96 hx2 dX5_payAll_78 ?_
        refine j_if_ne (w32 x2) rfl 119 dX5_payAll_79 (by decide) (fun h9 => ?_) (fun h9 => ?_)
        · replace hf := ieb h9 hf
          refine j_iinc dX5_payAll_119 4 rfl [(5, pI (v5 + 1)), (0, pR (some G.1)), (1, pI v1), (2, pI v2), (4, pI v4)] (Nat.le_of_ble_eq_true rfl) rfl ?_
          refine j_goto 52 dX5_payAll_122 (by decide) ?_
          exact j_sub [1, 2, 3, 4, 0] _ rfl (ih v4 (v5 + 1) hf)
        · replace hf := itb h9 hf
          refine j_aload_n dX5_payAll_82 0 rfl ?_
          refine m_geta mf_91 rfl dX5_payAll_83 ?_
          refine j_iload dX5_payAll_86 4 rfl ?_
          obtain ⟨x3, hx3, hf⟩ := obb hf
          refine m_iald mr_91 hx3 dX5_payAll_88 ?_
          refine j_iload_n dX5_payAll_89 2 rfl ?_
          refine j_icmp_gt (w32 x3) (w32 v2) rfl rfl 119 dX5_payAll_90 (by decide) (fun h8 => ?_) (fun h8 => ?_)
          · replace hf := itb h8 hf
            refine j_iinc dX5_payAll_119 4 rfl [(5, pI (v5 + 1)), (0, pR (some G.1)), (1, pI v1), (2, pI v2), (4, pI v4)] (Nat.le_of_ble_eq_true rfl) rfl ?_
            refine j_goto 52 dX5_payAll_122 (by decide) ?_
            exact j_sub [1, 2, 3, 4, 0] _ rfl (ih v4 (v5 + 1) hf)
          · replace hf := ieb h8 hf
            refine j_iload dX5_payAll_93 3 rfl ?_
            refine j_if_eq (w32 v4) rfl 115 dX5_payAll_95 (by decide) (fun h7 => ?_) (fun h7 => ?_)
            · replace hf := itb h7 hf
              exact j_sub [0, 1, 2, 4] _ rfl (c5_payAll_b115 (m5_payAll_l52 v1 v2 u n) ih hK0 v5 hf)
            · replace hf := ieb h7 hf
              refine j_aload_n dX5_payAll_98 0 rfl ?_
              refine m_geta mf_90 rfl dX5_payAll_99 ?_
              refine j_iload dX5_payAll_102 4 rfl ?_
              obtain ⟨x4, hx4, hf⟩ := obb hf
              refine m_iald mr_90 hx4 dX5_payAll_104 ?_
              refine j_aload_n dX5_payAll_105 0 rfl ?_
              refine m_geta mf_90 rfl dX5_payAll_106 ?_
              refine j_iload dX5_payAll_109 3 rfl ?_
              obtain ⟨x5, hx5, hf⟩ := obb hf
              refine m_iald mr_90 hx5 dX5_payAll_111 ?_
              refine j_icmp_ge (w32 x4) (w32 x5) rfl rfl 119 dX5_payAll_112 (by decide) (fun h6 => ?_) (fun h6 => ?_)
              · replace hf := itb h6 hf
                refine j_iinc dX5_payAll_119 4 rfl [(5, pI (v5 + 1)), (0, pR (some G.1)), (1, pI v1), (2, pI v2), (4, pI v4)] (Nat.le_of_ble_eq_true rfl) rfl ?_
                refine j_goto 52 dX5_payAll_122 (by decide) ?_
                exact j_sub [1, 2, 3, 4, 0] _ rfl (ih v4 (v5 + 1) hf)
              · replace hf := ieb h6 hf
                exact j_sub [0, 1, 2, 4] _ rfl (c5_payAll_b115 (m5_payAll_l52 v1 v2 u n) ih hK0 v5 hf)
theorem c5_payAll_b135 {G : MG} {l : Launch} {a : List PV} {r : Mu} {Kf : Mu → Option (Mu)} {v1 : Int} {v2 : Int} (kh : Int → Mu → Option (Mu)) (hkh : ∀ (z3 : Int) (zu : Mu), ((kh z3 zu).bind Kf = some r) → J5 G l D5_payAll a none r zu 42 [(0, pR (some G.1)), (1, pI v1), (2, pI v2), (3, pI z3)] []) (hK0 : ∀ q : Mu, Kf q = some r → J5 G l D5_payAll a none r q 165 [] []) (v4 : Int) (s0 : Int) (u : Mu) (hf : (m5_payAll_b135 kh v1 v2 v4 s0 u).bind Kf = some r) : J5 G l D5_payAll a none r u 135 [(0, pR (some G.1)), (1, pI v1), (2, pI v2), (4, pI v4)] [pI s0] := by
  unfold m5_payAll_b135 at hf
  refine j_istore_n dX5_payAll_135 [(3, pI s0), (0, pR (some G.1)), (1, pI v1), (2, pI v2), (4, pI v4)] (Nat.le_of_ble_eq_true rfl) rfl ?_
  refine j_iload_n dX5_payAll_136 0 rfl ?_
  refine j_if_eq (w32 s0) rfl 162 dX5_payAll_137 (by decide) (fun h4 => ?_) (fun h4 => ?_)
  · replace hf := itb h4 hf
    refine j_goto 42 dX5_payAll_162 (by decide) ?_
    exact j_sub [1, 2, 3, 0] _ rfl (hkh s0 u hf)
  · replace hf := ieb h4 hf
    refine j_aload_n dX5_payAll_140 1 rfl ?_
    refine m_geta mf_95 rfl dX5_payAll_141 ?_
    refine j_iload dX5_payAll_144 4 rfl ?_
    refine j_aload_n dX5_payAll_146 1 rfl ?_
    refine j_iload dX5_payAll_147 4 rfl ?_
    refine j_iload_n dX5_payAll_149 3 rfl ?_
    obtain ⟨q1, hq1, hf⟩ := obb hf
    refine j_cVr [pI v4, pI v2] [pI v4, pR (some (G.2.1 95))] kT_v (bM_mv G) (c5_due v4 v2 u hq1) wv5_due dv5_due rfl ⟨(Nat.le_of_ble_eq_true rfl), (Nat.le_of_ble_eq_true rfl)⟩ (m_recv u) rfl (Nat.le_of_ble_eq_true rfl) dX5_payAll_150 ⟨Nat.le_refl 0, Nat.le_refl 0⟩ ?_
    obtain ⟨u2, hu2, hf⟩ := obb hf
    refine m_last mr_95 hu2 dX5_payAll_153 ?_
    refine j_aload_n dX5_payAll_154 1 rfl ?_
    refine m_geta mf_96 rfl dX5_payAll_155 ?_
    refine j_iload dX5_payAll_158 4 rfl ?_
    refine j_iconst dX5_payAll_160 ?_
    obtain ⟨u3, hu3, hf⟩ := obb hf
    refine m_zast mr_96 hu3 dX5_payAll_161 ?_
    refine j_goto 42 dX5_payAll_162 (by decide) ?_
    exact j_sub [1, 2, 3, 0] _ rfl (hkh s0 u3 hf)
theorem c5_payAll_l42 {G : MG} {l : Launch} {a : List PV} {r : Mu} {Kf : Mu → Option (Mu)} (v1 : Int) (v2 : Int) (hK0 : ∀ q : Mu, Kf q = some r → J5 G l D5_payAll a none r q 165 [] []) : ∀ (n : Nat) (v3 : Int) (u : Mu), ((m5_payAll_l42 v1 v2 n v3 u).bind Kf = some r) → J5 G l D5_payAll a none r u 42 [(0, pR (some G.1)), (1, pI v1), (2, pI v2), (3, pI v3)] [] := by
  intro n
  induction n with
  | zero => intro v3 u hf; exact onb hf
  | succ n ih =>
    intro v3 u hf
    unfold m5_payAll_l42 at hf
    refine j_iload_n dX5_payAll_42 3 rfl ?_
    refine j_if_eq (w32 v3) rfl 165 dX5_payAll_43 (by decide) (fun h3 => ?_) (fun h3 => ?_)
    · replace hf := itb h3 hf
      exact j_sub [] _ rfl (hK0 u hf)
    · replace hf := ieb h3 hf
      refine j_iconst dX5_payAll_46 ?_
      refine j_istore dX5_payAll_47 [(4, pI 0), (0, pR (some G.1)), (1, pI v1), (2, pI v2), (3, pI v3)] (Nat.le_of_ble_eq_true rfl) rfl ?_
      refine j_iconst dX5_payAll_49 ?_
      refine j_istore dX5_payAll_50 [(5, pI 1), (4, pI 0), (0, pR (some G.1)), (1, pI v1), (2, pI v2), (3, pI v3)] (Nat.le_of_ble_eq_true rfl) rfl ?_
      replace hf := oba hf
      refine j_sub [2, 3, 4, 1, 0] _ rfl (c5_payAll_l52 v1 v2 u ?_ NN 0 1 hf)
      · intro q1 hf
        refine j_iload dX5_payAll_125 3 rfl ?_
        refine j_if_le (w32 q1) rfl 134 dX5_payAll_127 (by decide) (fun h2 => ?_) (fun h2 => ?_)
        · replace hf := itb h2 hf
          refine j_iconst dX5_payAll_134 ?_
          exact j_sub [0, 1, 2, 3] _ rfl (c5_payAll_b135 (m5_payAll_l42 v1 v2 n) ih hK0 q1 0 u hf)
        · replace hf := ieb h2 hf
          refine j_iconst dX5_payAll_130 ?_
          refine j_goto 135 dX5_payAll_131 (by decide) ?_
          exact j_sub [0, 1, 2, 3] _ rfl (c5_payAll_b135 (m5_payAll_l42 v1 v2 n) ih hK0 q1 1 u hf)
theorem c5_payAll {G : MG} {l : Launch} {r : Mu} (v1 : Int) (v2 : Int) (u : Mu) (hf : m5_payAll v1 v2 u = some r) : JM kT (bM G) (aM G) l yX5_payAll D5_payAll [pR (some G.1), pI v1, pI v2] u none r 0 0 := by
  refine j_met (lv0 := [(0, pR (some G.1)), (1, pI v1), (2, pI v2)]) ⟨pl_X5, rfl, rfl, (Nat.le_of_ble_eq_true rfl), rfl⟩ ?_
  unfold m5_payAll at hf
  refine j_iconst dX5_payAll_0 ?_
  refine j_istore_n dX5_payAll_1 [(3, pI 1), (0, pR (some G.1)), (1, pI v1), (2, pI v2)] (Nat.le_of_ble_eq_true rfl) rfl ?_
  refine j_sub [1, 2, 3, 0] _ rfl (c5_payAll_l2 v1 v2 ?_ NN 1 u hf)
  · intro q1 hf
    refine j_iconst dX5_payAll_40 ?_
    refine j_istore_n dX5_payAll_41 [(3, pI 1), (0, pR (some G.1)), (1, pI v1), (2, pI v2)] (Nat.le_of_ble_eq_true rfl) rfl ?_
    refine j_sub [1, 2, 3, 0] _ rfl (c5_payAll_l42 v1 v2 ?_ NN 1 q1 hf)
    · intro q2 hf
      replace hf := Option.some.inj hf
      subst hf
      exact j_return (bM_mv G) ⟨Nat.le_refl 0, Nat.le_refl 0⟩ rfl dX5_payAll_165

theorem c5_takeNodes_l3 {G : MG} {l : Launch} {a : List PV} {r : Mu} {Kf : Mu → Option (Mu)} (v1 : Int) (v3 : Int) (hK0 : ∀ q : Mu, Kf q = some r → J5 G l D5_takeNodes a none r q 95 [] []) : ∀ (n : Nat) (v4 : Int) (u : Mu), ((m5_takeNodes_l3 v1 v3 n v4 u).bind Kf = some r) → J5 G l D5_takeNodes a none r u 3 [(0, pR (some G.1)), (1, pI v1), (3, pI v3), (4, pI v4)] [] := by
  intro n
  induction n with
  | zero => intro v4 u hf; exact onb hf
  | succ n ih =>
    intro v4 u hf
    unfold m5_takeNodes_l3 at hf
    refine j_iload dX5_takeNodes_3 3 rfl ?_
    refine j_iload_n dX5_takeNodes_5 2 rfl ?_
    refine j_icmp_ge (w32 v4) (w32 v3) rfl rfl 95 dX5_takeNodes_6 (by decide) (fun h12 => ?_) (fun h12 => ?_)
    · replace hf := itb h12 hf
      exact j_sub [] _ rfl (hK0 u hf)
    · replace hf := ieb h12 hf
      refine j_sipush dX5_takeNodes_9 (by decide) ?_
      refine j_iload_n dX5_takeNodes_12 1 rfl ?_
      refine j_imul dX5_takeNodes_13 ?_
      refine j_aload_n dX5_takeNodes_14 0 rfl ?_
      refine m_geta mf_33 rfl dX5_takeNodes_15 ?_
      refine j_iload_n dX5_takeNodes_18 1 rfl ?_
      obtain ⟨x1, hx1, hf⟩ := obb hf
      refine m_iald mr_33 hx1 dX5_takeNodes_19 ?_
      refine j_iadd dX5_takeNodes_20 ?_
      refine j_istore dX5_takeNodes_21 [(5, pI ((2400 * v1) + x1)), (0, pR (some G.1)), (1, pI v1), (3, pI v3), (4, pI v4)] (Nat.le_of_ble_eq_true rfl) rfl ?_
      refine j_aload_n dX5_takeNodes_23 1 rfl ?_
      refine m_geta mf_34 rfl dX5_takeNodes_24 ?_
      refine j_iload dX5_takeNodes_27 0 rfl ?_
      refine j_aload_n dX5_takeNodes_29 1 rfl ?_
      refine m_geta mf_42 rfl dX5_takeNodes_30 ?_
      refine j_iload dX5_takeNodes_33 4 rfl ?_
      obtain ⟨x2, hx2, hf⟩ := obb hf
      refine m_bald mr_42 hx2 dX5_takeNodes_35 ?_
      obtain ⟨u3, hu3, hf⟩ := obb hf
      refine m_bast mr_34 hu3 dX5_takeNodes_36 ?_
      refine j_aload_n dX5_takeNodes_37 1 rfl ?_
      refine m_geta mf_35 rfl dX5_takeNodes_38 ?_
      refine j_iload dX5_takeNodes_41 0 rfl ?_
      refine j_aload_n dX5_takeNodes_43 1 rfl ?_
      refine m_geta mf_43 rfl dX5_takeNodes_44 ?_
      refine j_iload dX5_takeNodes_47 4 rfl ?_
      obtain ⟨x4, hx4, hf⟩ := obb hf
      refine m_bald mr_43 hx4 dX5_takeNodes_49 ?_
      obtain ⟨u5, hu5, hf⟩ := obb hf
      refine m_bast mr_35 hu5 dX5_takeNodes_50 ?_
      refine j_aload_n dX5_takeNodes_51 1 rfl ?_
      refine m_geta mf_36 rfl dX5_takeNodes_52 ?_
      refine j_iload dX5_takeNodes_55 0 rfl ?_
      refine j_aload_n dX5_takeNodes_57 1 rfl ?_
      refine m_geta mf_44 rfl dX5_takeNodes_58 ?_
      refine j_iload dX5_takeNodes_61 4 rfl ?_
      obtain ⟨x6, hx6, hf⟩ := obb hf
      refine m_bald mr_44 hx6 dX5_takeNodes_63 ?_
      obtain ⟨u7, hu7, hf⟩ := obb hf
      refine m_bast mr_36 hu7 dX5_takeNodes_64 ?_
      refine j_aload_n dX5_takeNodes_65 1 rfl ?_
      refine m_geta mf_37 rfl dX5_takeNodes_66 ?_
      refine j_iload dX5_takeNodes_69 0 rfl ?_
      refine j_aload_n dX5_takeNodes_71 1 rfl ?_
      refine m_geta mf_45 rfl dX5_takeNodes_72 ?_
      refine j_iload dX5_takeNodes_75 4 rfl ?_
      obtain ⟨x8, hx8, hf⟩ := obb hf
      refine m_iald mr_45 hx8 dX5_takeNodes_77 ?_
      obtain ⟨u9, hu9, hf⟩ := obb hf
      refine m_iast mr_37 hu9 dX5_takeNodes_78 ?_
      refine j_aload_n dX5_takeNodes_79 1 rfl ?_
      refine m_geta mf_33 rfl dX5_takeNodes_80 ?_
      refine j_iload_n dX5_takeNodes_83 2 rfl ?_
      refine j_dup2_11 dX5_takeNodes_84 rfl rfl ?_
      obtain ⟨x10, hx10, hf⟩ := obb hf
      refine m_iald mr_33 hx10 dX5_takeNodes_85 ?_
      refine j_iconst dX5_takeNodes_86 ?_
      refine j_iadd dX5_takeNodes_87 ?_
      obtain ⟨u11, hu11, hf⟩ := obb hf
      refine m_iast mr_33 hu11 dX5_takeNodes_88 ?_
      refine j_iinc dX5_takeNodes_89 4 rfl [(4, pI (v4 + 1)), (5, pI ((2400 * v1) + x1)), (0, pR (some G.1)), (1, pI v1), (3, pI v3)] (Nat.le_of_ble_eq_true rfl) rfl ?_
      refine j_goto 3 dX5_takeNodes_92 (by decide) ?_
      exact j_sub [2, 3, 4, 0] _ rfl (ih (v4 + 1) u11 hf)
theorem c5_takeNodes {G : MG} {l : Launch} {r : Mu} (v1 : Int) (v2 : Int) (v3 : Int) (u : Mu) (hf : m5_takeNodes v1 v2 v3 u = some r) : JM kT (bM G) (aM G) l yX5_takeNodes D5_takeNodes [pR (some G.1), pI v1, pI v2, pI v3] u none r 0 0 := by
  refine j_met (lv0 := [(0, pR (some G.1)), (1, pI v1), (2, pI v2), (3, pI v3)]) ⟨pl_X5, rfl, rfl, (Nat.le_of_ble_eq_true rfl), rfl⟩ ?_
  unfold m5_takeNodes at hf
  refine j_iload_n dX5_takeNodes_0 2 rfl ?_
  refine j_istore dX5_takeNodes_1 [(4, pI v2), (0, pR (some G.1)), (1, pI v1), (2, pI v2), (3, pI v3)] (Nat.le_of_ble_eq_true rfl) rfl ?_
  refine j_sub [1, 2, 4, 0] _ rfl (c5_takeNodes_l3 v1 v3 ?_ NN v2 u hf)
  · intro q1 hf
    replace hf := Option.some.inj hf
    subst hf
    exact j_return (bM_mv G) ⟨Nat.le_refl 0, Nat.le_refl 0⟩ rfl dX5_takeNodes_95
theorem c5_wording_l25 {G : MG} {l : Launch} {a : List PV} {r : Int × Mu} {Kf : Mu → Option (Int × Mu)} (hK0 : ∀ q : Mu, Kf q = some r → J5 G l D5_wording a (some (pI r.1)) r.2 q 46 [(0, pR (some G.1))] []) : ∀ (n : Nat) (u : Mu), ((m5_wording_l25 n u).bind Kf = some r) → J5 G l D5_wording a (some (pI r.1)) r.2 u 25 [(0, pR (some G.1))] [] := by
  intro n
  induction n with
  | zero => intro u hf; exact onb hf
  | succ n ih =>
    intro u hf
    unfold m5_wording_l25 at hf
    refine j_aload_n dX5_wording_25 0 rfl ?_
    refine m_geti mf_4 rfl dX5_wording_26 ?_
    refine j_if_eq (w32 (u.1 4)) rfl 46 dX5_wording_29 (by decide) (fun h3 => ?_) (fun h3 => ?_)
    · replace hf := itb h3 hf
      exact j_sub [0] _ rfl (hK0 u hf)
    · replace hf := ieb h3 hf
      refine j_aload_n dX5_wording_32 0 rfl ?_
      refine m_geti mf_8 rfl dX5_wording_33 ?_
      refine j_if_ne (w32 (u.1 8)) rfl 46 dX5_wording_36 (by decide) (fun h2 => ?_) (fun h2 => ?_)
      · replace hf := ieb h2 hf
        exact j_sub [0] _ rfl (hK0 u hf)
      · replace hf := itb h2 hf
        refine j_aload_n dX5_wording_39 0 rfl ?_
        obtain ⟨u1, hu1, hf⟩ := obb hf
        refine j_cVv [] [] kT_v (bM_mv G) (c5_readStatement  u hu1) wv5_readStatement dv5_readStatement rfl ⟨(Nat.le_of_ble_eq_true rfl), (Nat.le_of_ble_eq_true rfl)⟩ (m_recv u) rfl (Nat.le_of_ble_eq_true rfl) dX5_wording_40 ⟨Nat.le_refl 0, Nat.le_refl 0⟩ ?_
        refine j_goto 25 dX5_wording_43 (by decide) ?_
        exact j_sub [0] _ rfl (ih u1 hf)
theorem c5_wording_b286 {G : MG} {l : Launch} {a : List PV} {r : Int × Mu} (v1 : Int) (v2 : Int) (u : Mu) (hf : m5_wording_b286 v1 v2 u = some r) : J5 G l D5_wording a (some (pI r.1)) r.2 u 286 [(1, pI v1), (2, pI v2)] [] := by
  unfold m5_wording_b286 at hf
  refine j_iload_n dX5_wording_286 1 rfl ?_
  refine j_if_ge (w32 v2) rfl 294 dX5_wording_287 (by decide) (fun h1 => ?_) (fun h1 => ?_)
  · replace hf := it h1 hf
    refine j_iload_n dX5_wording_294 0 rfl ?_
    replace hf := Option.some.inj hf
    subst hf
    exact j_ireturn (bM_mv G) ⟨Nat.le_refl 0, Nat.le_refl 0⟩ rfl dX5_wording_295
  · replace hf := ie h1 hf
    refine j_iload_n dX5_wording_290 1 rfl ?_
    refine j_goto 295 dX5_wording_291 (by decide) ?_
    replace hf := Option.some.inj hf
    subst hf
    exact j_ireturn (bM_mv G) ⟨Nat.le_refl 0, Nat.le_refl 0⟩ rfl dX5_wording_295
theorem c5_wording_b267 {G : MG} {l : Launch} {a : List PV} {r : Int × Mu} (v1 : Int) (u : Mu) (hf : m5_wording_b267 v1 u = some r) : J5 G l D5_wording a (some (pI r.1)) r.2 u 267 [(0, pR (some G.1)), (1, pI v1)] [] := by
  unfold m5_wording_b267 at hf
  refine j_aload_n dX5_wording_267 0 rfl ?_
  obtain ⟨q1, hq1, hf⟩ := ob hf
  refine j_cVr [] [] kT_v (bM_mv G) (c5_ended  u hq1) wv5_ended dv5_ended rfl ⟨(Nat.le_of_ble_eq_true rfl), (Nat.le_of_ble_eq_true rfl)⟩ (m_recv u) rfl (Nat.le_of_ble_eq_true rfl) dX5_wording_268 ⟨Nat.le_refl 0, Nat.le_refl 0⟩ ?_
  refine j_istore_n dX5_wording_271 [(2, pI q1.1), (0, pR (some G.1)), (1, pI v1)] (Nat.le_of_ble_eq_true rfl) rfl ?_
  refine j_iload_n dX5_wording_272 0 rfl ?_
  refine j_if_ne (w32 q1.1) rfl 286 dX5_wording_273 (by decide) (fun h3 => ?_) (fun h3 => ?_)
  · replace hf := ie h3 hf
    exact j_sub [2, 0] _ rfl (c5_wording_b286 v1 q1.1 q1.2 hf)
  · replace hf := it h3 hf
    refine j_aload_n dX5_wording_276 1 rfl ?_
    refine j_dup dX5_wording_277 rfl ?_
    refine m_geti mf_11 rfl dX5_wording_278 ?_
    refine j_iconst dX5_wording_281 ?_
    refine j_iadd dX5_wording_282 ?_
    obtain ⟨u2, hu2, hf⟩ := ob hf
    refine m_puti_ hu2 mf_11 mfw_11 rfl dX5_wording_283 ?_
    exact j_sub [2, 0] _ rfl (c5_wording_b286 v1 q1.1 u2 hf)
theorem c5_wording_l83 {G : MG} {l : Launch} {a : List PV} {r : Int × Mu} {Kf : Mu → Option (Int × Mu)} (v1 : Int) (hK0 : ∀ q : Mu, Kf q = some r → J5 G l D5_wording a (some (pI r.1)) r.2 q 133 [(0, pR (some G.1)), (1, pI v1)] []) : ∀ (n : Nat) (v2 : Int) (u : Mu), ((m5_wording_l83 v1 n v2 u).bind Kf = some r) → J5 G l D5_wording a (some (pI r.1)) r.2 u 83 [(0, pR (some G.1)), (1, pI v1), (2, pI v2)] [] := by
  intro n
  induction n with
  | zero => intro v2 u hf; exact onb hf
  | succ n ih =>
    intro v2 u hf
    unfold m5_wording_l83 at hf
    refine j_iload_n dX5_wording_83 2 rfl ?_
    refine j_aload_n dX5_wording_84 0 rfl ?_
    refine m_geta mf_19 rfl dX5_wording_85 ?_
    refine j_iconst dX5_wording_88 ?_
    obtain ⟨x1, hx1, hf⟩ := obb hf
    refine m_iald mr_19 hx1 dX5_wording_89 ?_
    refine j_icmp_ge (w32 v2) (w32 x1) rfl rfl 133 dX5_wording_90 (by decide) (fun h6 => ?_) (fun h6 => ?_)
    · replace hf := itb h6 hf
      exact j_sub [0, 1] _ rfl (hK0 u hf)
    · replace hf := ieb h6 hf
      refine j_aload_n dX5_wording_93 0 rfl ?_
      refine m_geta mf_21 rfl dX5_wording_94 ?_
      refine j_bipush dX5_wording_97 (by decide) ?_
      refine j_iload_n dX5_wording_99 1 rfl ?_
      refine j_imul dX5_wording_100 ?_
      refine j_iload_n dX5_wording_101 2 rfl ?_
      refine j_iadd dX5_wording_102 ?_
      refine j_aload_n dX5_wording_103 0 rfl ?_
      refine m_geta mf_21 rfl dX5_wording_104 ?_
      refine j_iload_n dX5_wording_107 2 rfl ?_
      obtain ⟨x2, hx2, hf⟩ := obb hf
      refine m_iald mr_21 hx2 dX5_wording_108 ?_
      obtain ⟨u3, hu3, hf⟩ := obb hf
      refine m_iast mr_21 hu3 dX5_wording_109 ?_
      refine j_aload_n dX5_wording_110 0 rfl ?_
      refine m_geta mf_22 rfl dX5_wording_111 ?_
      refine j_bipush dX5_wording_114 (by decide) ?_
      refine j_iload_n dX5_wording_116 1 rfl ?_
      refine j_imul dX5_wording_117 ?_
      refine j_iload_n dX5_wording_118 2 rfl ?_
      refine j_iadd dX5_wording_119 ?_
      refine j_aload_n dX5_wording_120 0 rfl ?_
      refine m_geta mf_22 rfl dX5_wording_121 ?_
      refine j_iload_n dX5_wording_124 2 rfl ?_
      obtain ⟨x4, hx4, hf⟩ := obb hf
      refine m_iald mr_22 hx4 dX5_wording_125 ?_
      obtain ⟨u5, hu5, hf⟩ := obb hf
      refine m_iast mr_22 hu5 dX5_wording_126 ?_
      refine j_iinc dX5_wording_127 2 rfl [(2, pI (v2 + 1)), (0, pR (some G.1)), (1, pI v1)] (Nat.le_of_ble_eq_true rfl) rfl ?_
      refine j_goto 83 dX5_wording_130 (by decide) ?_
      exact j_sub [1, 2, 0] _ rfl (ih (v2 + 1) u5 hf)
theorem c5_wording_l145 {G : MG} {l : Launch} {a : List PV} {r : Int × Mu} {Kf : Mu → Option (Int × Mu)} (v1 : Int) (hK0 : ∀ q : Mu, Kf q = some r → J5 G l D5_wording a (some (pI r.1)) r.2 q 210 [(0, pR (some G.1)), (1, pI v1)] []) : ∀ (n : Nat) (v2 : Int) (u : Mu), ((m5_wording_l145 v1 n v2 u).bind Kf = some r) → J5 G l D5_wording a (some (pI r.1)) r.2 u 145 [(0, pR (some G.1)), (1, pI v1), (2, pI v2)] [] := by
  intro n
  induction n with
  | zero => intro v2 u hf; exact onb hf
  | succ n ih =>
    intro v2 u hf
    unfold m5_wording_l145 at hf
    refine j_iload_n dX5_wording_145 2 rfl ?_
    refine j_aload_n dX5_wording_146 0 rfl ?_
    refine m_geti mf_56 rfl dX5_wording_147 ?_
    refine j_icmp_ge (w32 v2) (w32 (u.1 56)) rfl rfl 210 dX5_wording_150 (by decide) (fun h7 => ?_) (fun h7 => ?_)
    · replace hf := itb h7 hf
      exact j_sub [0, 1] _ rfl (hK0 u hf)
    · replace hf := ieb h7 hf
      refine j_aload_n dX5_wording_153 0 rfl ?_
      refine m_geta mf_24 rfl dX5_wording_154 ?_
      refine j_bipush dX5_wording_157 (by decide) ?_
      refine j_iload_n dX5_wording_159 1 rfl ?_
      refine j_imul dX5_wording_160 ?_
      refine j_iload_n dX5_wording_161 2 rfl ?_
      refine j_iadd dX5_wording_162 ?_
      refine j_aload_n dX5_wording_163 0 rfl ?_
      refine m_geta mf_53 rfl dX5_wording_164 ?_
      refine j_iload_n dX5_wording_167 2 rfl ?_
      obtain ⟨x1, hx1, hf⟩ := obb hf
      refine m_iald mr_53 hx1 dX5_wording_168 ?_
      obtain ⟨u2, hu2, hf⟩ := obb hf
      refine m_iast mr_24 hu2 dX5_wording_169 ?_
      refine j_aload_n dX5_wording_170 0 rfl ?_
      refine m_geta mf_25 rfl dX5_wording_171 ?_
      refine j_bipush dX5_wording_174 (by decide) ?_
      refine j_iload_n dX5_wording_176 1 rfl ?_
      refine j_imul dX5_wording_177 ?_
      refine j_iload_n dX5_wording_178 2 rfl ?_
      refine j_iadd dX5_wording_179 ?_
      refine j_aload_n dX5_wording_180 0 rfl ?_
      refine m_geta mf_54 rfl dX5_wording_181 ?_
      refine j_iload_n dX5_wording_184 2 rfl ?_
      obtain ⟨x3, hx3, hf⟩ := obb hf
      refine m_iald mr_54 hx3 dX5_wording_185 ?_
      obtain ⟨u4, hu4, hf⟩ := obb hf
      refine m_iast mr_25 hu4 dX5_wording_186 ?_
      refine j_aload_n dX5_wording_187 0 rfl ?_
      refine m_geta mf_26 rfl dX5_wording_188 ?_
      refine j_bipush dX5_wording_191 (by decide) ?_
      refine j_iload_n dX5_wording_193 1 rfl ?_
      refine j_imul dX5_wording_194 ?_
      refine j_iload_n dX5_wording_195 2 rfl ?_
      refine j_iadd dX5_wording_196 ?_
      refine j_aload_n dX5_wording_197 0 rfl ?_
      refine m_geta mf_55 rfl dX5_wording_198 ?_
      refine j_iload_n dX5_wording_201 2 rfl ?_
      obtain ⟨x5, hx5, hf⟩ := obb hf
      refine m_iald mr_55 hx5 dX5_wording_202 ?_
      obtain ⟨u6, hu6, hf⟩ := obb hf
      refine m_iast mr_26 hu6 dX5_wording_203 ?_
      refine j_iinc dX5_wording_204 2 rfl [(2, pI (v2 + 1)), (0, pR (some G.1)), (1, pI v1)] (Nat.le_of_ble_eq_true rfl) rfl ?_
      refine j_goto 145 dX5_wording_207 (by decide) ?_
      exact j_sub [1, 2, 0] _ rfl (ih (v2 + 1) u6 hf)
theorem c5_wording_l212 {G : MG} {l : Launch} {a : List PV} {r : Int × Mu} {Kf : Mu → Option (Int × Mu)} (v1 : Int) (hK0 : ∀ q : Mu, Kf q = some r → J5 G l D5_wording a (some (pI r.1)) r.2 q 262 [(0, pR (some G.1)), (1, pI v1)] []) : ∀ (n : Nat) (v2 : Int) (u : Mu), ((m5_wording_l212 v1 n v2 u).bind Kf = some r) → J5 G l D5_wording a (some (pI r.1)) r.2 u 212 [(0, pR (some G.1)), (1, pI v1), (2, pI v2)] [] := by
  intro n
  induction n with
  | zero => intro v2 u hf; exact onb hf
  | succ n ih =>
    intro v2 u hf
    unfold m5_wording_l212 at hf
    refine j_iload_n dX5_wording_212 2 rfl ?_
    refine j_aload_n dX5_wording_213 0 rfl ?_
    refine m_geta mf_27 rfl dX5_wording_214 ?_
    refine j_iconst dX5_wording_217 ?_
    obtain ⟨x1, hx1, hf⟩ := obb hf
    refine m_iald mr_27 hx1 dX5_wording_218 ?_
    refine j_icmp_ge (w32 v2) (w32 x1) rfl rfl 262 dX5_wording_219 (by decide) (fun h6 => ?_) (fun h6 => ?_)
    · replace hf := itb h6 hf
      exact j_sub [0, 1] _ rfl (hK0 u hf)
    · replace hf := ieb h6 hf
      refine j_aload_n dX5_wording_222 0 rfl ?_
      refine m_geta mf_30 rfl dX5_wording_223 ?_
      refine j_bipush dX5_wording_226 (by decide) ?_
      refine j_iload_n dX5_wording_228 1 rfl ?_
      refine j_imul dX5_wording_229 ?_
      refine j_iload_n dX5_wording_230 2 rfl ?_
      refine j_iadd dX5_wording_231 ?_
      refine j_aload_n dX5_wording_232 0 rfl ?_
      refine m_geta mf_30 rfl dX5_wording_233 ?_
      refine j_iload_n dX5_wording_236 2 rfl ?_
      obtain ⟨x2, hx2, hf⟩ := obb hf
      refine m_iald mr_30 hx2 dX5_wording_237 ?_
      obtain ⟨u3, hu3, hf⟩ := obb hf
      refine m_iast mr_30 hu3 dX5_wording_238 ?_
      refine j_aload_n dX5_wording_239 0 rfl ?_
      refine m_geta mf_31 rfl dX5_wording_240 ?_
      refine j_bipush dX5_wording_243 (by decide) ?_
      refine j_iload_n dX5_wording_245 1 rfl ?_
      refine j_imul dX5_wording_246 ?_
      refine j_iload_n dX5_wording_247 2 rfl ?_
      refine j_iadd dX5_wording_248 ?_
      refine j_aload_n dX5_wording_249 0 rfl ?_
      refine m_geta mf_31 rfl dX5_wording_250 ?_
      refine j_iload_n dX5_wording_253 2 rfl ?_
      obtain ⟨x4, hx4, hf⟩ := obb hf
      refine m_iald mr_31 hx4 dX5_wording_254 ?_
      obtain ⟨u5, hu5, hf⟩ := obb hf
      refine m_iast mr_31 hu5 dX5_wording_255 ?_
      refine j_iinc dX5_wording_256 2 rfl [(2, pI (v2 + 1)), (0, pR (some G.1)), (1, pI v1)] (Nat.le_of_ble_eq_true rfl) rfl ?_
      refine j_goto 212 dX5_wording_259 (by decide) ?_
      exact j_sub [1, 2, 0] _ rfl (ih (v2 + 1) u5 hf)
theorem c5_wording_b46 {G : MG} {l : Launch} {a : List PV} {r : Int × Mu} (u : Mu) (hf : m5_wording_b46 u = some r) : J5 G l D5_wording a (some (pI r.1)) r.2 u 46 [(0, pR (some G.1))] [] := by
  unfold m5_wording_b46 at hf
  refine j_aload_n dX5_wording_46 0 rfl ?_
  refine m_geti mf_11 rfl dX5_wording_47 ?_
  refine j_iconst dX5_wording_50 ?_
  refine j_iadd dX5_wording_51 ?_
  refine j_istore_n dX5_wording_52 [(1, pI ((u.1 11) + 1)), (0, pR (some G.1))] (Nat.le_of_ble_eq_true rfl) rfl ?_
  refine j_aload_n dX5_wording_53 1 rfl ?_
  refine m_geti mf_8 rfl dX5_wording_54 ?_
  refine j_if_ne (w32 (u.1 8)) rfl 267 dX5_wording_57 (by decide) (fun h9 => ?_) (fun h9 => ?_)
  · replace hf := ie h9 hf
    exact j_sub [1, 0] _ rfl (c5_wording_b267 ((u.1 11) + 1) u hf)
  · replace hf := it h9 hf
    refine j_aload_n dX5_wording_60 1 rfl ?_
    refine j_iload_n dX5_wording_61 0 rfl ?_
    obtain ⟨u1, hu1, hf⟩ := ob hf
    refine j_cVv [pI ((u.1 11) + 1)] [] kT_v (bM_mv G) (c5_clear ((u.1 11) + 1) u hu1) wv5_clear dv5_clear rfl ⟨(Nat.le_of_ble_eq_true rfl), (Nat.le_of_ble_eq_true rfl)⟩ (m_recv u) rfl (Nat.le_of_ble_eq_true rfl) dX5_wording_62 ⟨Nat.le_refl 0, Nat.le_refl 0⟩ ?_
    refine j_aload_n dX5_wording_65 1 rfl ?_
    refine j_iload_n dX5_wording_66 0 rfl ?_
    refine j_iconst dX5_wording_67 ?_
    obtain ⟨u2, hu2, hf⟩ := ob hf
    refine j_cVv [pI ((u.1 11) + 1), pI 0] [] kT_v (bM_mv G) (c5_copyWording ((u.1 11) + 1) 0 u1 hu2) wv5_copyWording dv5_copyWording rfl ⟨(Nat.le_of_ble_eq_true rfl), (Nat.le_of_ble_eq_true rfl)⟩ (m_recv u1) rfl (Nat.le_of_ble_eq_true rfl) dX5_wording_68 ⟨Nat.le_refl 0, Nat.le_refl 0⟩ ?_
    refine j_aload_n dX5_wording_71 1 rfl ?_
    refine j_iload_n dX5_wording_72 0 rfl ?_
    refine j_iconst dX5_wording_73 ?_
    refine j_aload_n dX5_wording_74 1 rfl ?_
    refine m_geti mf_46 rfl dX5_wording_75 ?_
    obtain ⟨u3, hu3, hf⟩ := ob hf
    refine j_cVv [pI ((u.1 11) + 1), pI 0, pI (u2.1 46)] [] kT_v (bM_mv G) (c5_takeNodes ((u.1 11) + 1) 0 (u2.1 46) u2 hu3) wv5_takeNodes dv5_takeNodes rfl ⟨(Nat.le_of_ble_eq_true rfl), (Nat.le_of_ble_eq_true rfl)⟩ (m_recv u2) rfl (Nat.le_of_ble_eq_true rfl) dX5_wording_78 ⟨Nat.le_refl 0, Nat.le_refl 0⟩ ?_
    refine j_iconst dX5_wording_81 ?_
    refine j_istore_n dX5_wording_82 [(2, pI 0), (1, pI ((u.1 11) + 1)), (0, pR (some G.1))] (Nat.le_of_ble_eq_true rfl) rfl ?_
    refine j_sub [2, 1, 0] _ rfl (c5_wording_l83 ((u.1 11) + 1) ?_ NN 0 u3 hf)
    · intro q4 hf
      refine j_aload_n dX5_wording_133 0 rfl ?_
      refine m_geta mf_23 rfl dX5_wording_134 ?_
      refine j_iload_n dX5_wording_137 1 rfl ?_
      refine j_aload_n dX5_wording_138 0 rfl ?_
      refine m_geti mf_56 rfl dX5_wording_139 ?_
      obtain ⟨u5, hu5, hf⟩ := ob hf
      refine m_iast mr_23 hu5 dX5_wording_142 ?_
      refine j_iconst dX5_wording_143 ?_
      refine j_istore_n dX5_wording_144 [(2, pI 0), (0, pR (some G.1)), (1, pI ((u.1 11) + 1))] (Nat.le_of_ble_eq_true rfl) rfl ?_
      refine j_sub [1, 2, 0] _ rfl (c5_wording_l145 ((u.1 11) + 1) ?_ NN 0 u5 hf)
      · intro q6 hf
        refine j_iconst dX5_wording_210 ?_
        refine j_istore_n dX5_wording_211 [(2, pI 0), (0, pR (some G.1)), (1, pI ((u.1 11) + 1))] (Nat.le_of_ble_eq_true rfl) rfl ?_
        refine j_sub [1, 2, 0] _ rfl (c5_wording_l212 ((u.1 11) + 1) ?_ NN 0 q6 hf)
        · intro q7 hf
          refine j_aload_n dX5_wording_262 0 rfl ?_
          refine j_iload_n dX5_wording_263 1 rfl ?_
          obtain ⟨u8, hu8, hf⟩ := ob hf
          refine j_cVv [pI ((u.1 11) + 1)] [] kT_v (bM_mv G) (c5_finish ((u.1 11) + 1) q7 hu8) wv5_finish dv5_finish rfl ⟨(Nat.le_of_ble_eq_true rfl), (Nat.le_of_ble_eq_true rfl)⟩ (m_recv q7) rfl (Nat.le_of_ble_eq_true rfl) dX5_wording_264 ⟨Nat.le_refl 0, Nat.le_refl 0⟩ ?_
          exact j_sub [0, 1] _ rfl (c5_wording_b267 ((u.1 11) + 1) u8 hf)
theorem c5_wording {G : MG} {l : Launch} {r : Int × Mu}  (u : Mu) (hf : m5_wording u = some r) : JM kT (bM G) (aM G) l yX5_wording D5_wording [pR (some G.1)] u (some (pI r.1)) r.2 0 0 := by
  refine j_met (lv0 := [(0, pR (some G.1))]) ⟨pl_X5, rfl, rfl, (Nat.le_of_ble_eq_true rfl), rfl⟩ ?_
  unfold m5_wording at hf
  refine j_aload_n dX5_wording_0 0 rfl ?_
  refine m_geti mf_11 rfl dX5_wording_1 ?_
  refine j_bipush dX5_wording_4 (by decide) ?_
  refine j_icmp_ne (w32 (u.1 11)) 12 rfl rfl 12 dX5_wording_6 (by decide) (fun h4 => ?_) (fun h4 => ?_)
  · replace hf := ie h4 hf
    refine j_aload_n dX5_wording_12 0 rfl ?_
    refine j_iconst dX5_wording_13 ?_
    obtain ⟨u1, hu1, hf⟩ := ob hf
    refine j_cVv [pI 0] [] kT_v (bM_mv G) (c5_clear 0 u hu1) wv5_clear dv5_clear rfl ⟨(Nat.le_of_ble_eq_true rfl), (Nat.le_of_ble_eq_true rfl)⟩ (m_recv u) rfl (Nat.le_of_ble_eq_true rfl) dX5_wording_14 ⟨Nat.le_refl 0, Nat.le_refl 0⟩ ?_
    refine j_aload_n dX5_wording_17 0 rfl ?_
    refine j_iconst dX5_wording_18 ?_
    refine j_sipush dX5_wording_19 (by decide) ?_
    obtain ⟨u2, hu2, hf⟩ := ob hf
    refine j_cVv [pI 0, pI 300] [] kT_v (bM_mv G) (c5_beginText 0 300 u1 hu2) wv5_beginText dv5_beginText rfl ⟨(Nat.le_of_ble_eq_true rfl), (Nat.le_of_ble_eq_true rfl)⟩ (m_recv u1) rfl (Nat.le_of_ble_eq_true rfl) dX5_wording_22 ⟨Nat.le_refl 0, Nat.le_refl 0⟩ ?_
    refine j_sub [0] _ rfl (c5_wording_l25 ?_ NN u2 hf)
    · intro q3 hf
      exact j_sub [0] _ rfl (c5_wording_b46 q3 hf)
  · replace hf := it h4 hf
    refine j_bipush dX5_wording_9 (by decide) ?_
    replace hf := Option.some.inj hf
    subst hf
    exact j_ireturn (bM_mv G) ⟨Nat.le_refl 0, Nat.le_refl 0⟩ rfl dX5_wording_11
theorem c5_copyNodes_l3 {G : MG} {l : Launch} {a : List PV} {r : Mu} {Kf : Mu → Option (Mu)} (v1 : Int) (v2 : Int) (v4 : Int) (hK0 : ∀ q : Mu, Kf q = some r → J5 G l D5_copyNodes a none r q 106 [] []) : ∀ (n : Nat) (v5 : Int) (u : Mu), ((m5_copyNodes_l3 v1 v2 v4 n v5 u).bind Kf = some r) → J5 G l D5_copyNodes a none r u 3 [(0, pR (some G.1)), (1, pI v1), (2, pI v2), (4, pI v4), (5, pI v5)] [] := by
  intro n
  induction n with
  | zero => intro v5 u hf; exact onb hf
  | succ n ih =>
    intro v5 u hf
    unfold m5_copyNodes_l3 at hf
    refine j_iload dX5_copyNodes_3 4 rfl ?_
    refine j_iload dX5_copyNodes_5 3 rfl ?_
    refine j_icmp_ge (w32 v5) (w32 v4) rfl rfl 106 dX5_copyNodes_7 (by decide) (fun h12 => ?_) (fun h12 => ?_)
    · replace hf := itb h12 hf
      exact j_sub [] _ rfl (hK0 u hf)
    · replace hf := ieb h12 hf
      refine j_sipush dX5_copyNodes_10 (by decide) ?_
      refine j_iload_n dX5_copyNodes_13 1 rfl ?_
      refine j_imul dX5_copyNodes_14 ?_
      refine j_aload_n dX5_copyNodes_15 0 rfl ?_
      refine m_geta mf_33 rfl dX5_copyNodes_16 ?_
      refine j_iload_n dX5_copyNodes_19 1 rfl ?_
      obtain ⟨x1, hx1, hf⟩ := obb hf
      refine m_iald mr_33 hx1 dX5_copyNodes_20 ?_
      refine j_iadd dX5_copyNodes_21 ?_
      refine j_istore dX5_copyNodes_22 [(6, pI ((2400 * v1) + x1)), (0, pR (some G.1)), (1, pI v1), (2, pI v2), (4, pI v4), (5, pI v5)] (Nat.le_of_ble_eq_true rfl) rfl ?_
      refine j_sipush dX5_copyNodes_24 (by decide) ?_
      refine j_iload_n dX5_copyNodes_27 3 rfl ?_
      refine j_imul dX5_copyNodes_28 ?_
      refine j_iload dX5_copyNodes_29 5 rfl ?_
      refine j_iadd dX5_copyNodes_31 ?_
      refine j_istore dX5_copyNodes_32 [(7, pI ((2400 * v2) + v5)), (6, pI ((2400 * v1) + x1)), (0, pR (some G.1)), (1, pI v1), (2, pI v2), (4, pI v4), (5, pI v5)] (Nat.le_of_ble_eq_true rfl) rfl ?_
      refine j_aload_n dX5_copyNodes_34 2 rfl ?_
      refine m_geta mf_34 rfl dX5_copyNodes_35 ?_
      refine j_iload dX5_copyNodes_38 1 rfl ?_
      refine j_aload_n dX5_copyNodes_40 2 rfl ?_
      refine m_geta mf_34 rfl dX5_copyNodes_41 ?_
      refine j_iload dX5_copyNodes_44 0 rfl ?_
      obtain ⟨x2, hx2, hf⟩ := obb hf
      refine m_bald mr_34 hx2 dX5_copyNodes_46 ?_
      obtain ⟨u3, hu3, hf⟩ := obb hf
      refine m_bast mr_34 hu3 dX5_copyNodes_47 ?_
      refine j_aload_n dX5_copyNodes_48 2 rfl ?_
      refine m_geta mf_35 rfl dX5_copyNodes_49 ?_
      refine j_iload dX5_copyNodes_52 1 rfl ?_
      refine j_aload_n dX5_copyNodes_54 2 rfl ?_
      refine m_geta mf_35 rfl dX5_copyNodes_55 ?_
      refine j_iload dX5_copyNodes_58 0 rfl ?_
      obtain ⟨x4, hx4, hf⟩ := obb hf
      refine m_bald mr_35 hx4 dX5_copyNodes_60 ?_
      obtain ⟨u5, hu5, hf⟩ := obb hf
      refine m_bast mr_35 hu5 dX5_copyNodes_61 ?_
      refine j_aload_n dX5_copyNodes_62 2 rfl ?_
      refine m_geta mf_36 rfl dX5_copyNodes_63 ?_
      refine j_iload dX5_copyNodes_66 1 rfl ?_
      refine j_aload_n dX5_copyNodes_68 2 rfl ?_
      refine m_geta mf_36 rfl dX5_copyNodes_69 ?_
      refine j_iload dX5_copyNodes_72 0 rfl ?_
      obtain ⟨x6, hx6, hf⟩ := obb hf
      refine m_bald mr_36 hx6 dX5_copyNodes_74 ?_
      obtain ⟨u7, hu7, hf⟩ := obb hf
      refine m_bast mr_36 hu7 dX5_copyNodes_75 ?_
      refine j_aload_n dX5_copyNodes_76 2 rfl ?_
      refine m_geta mf_37 rfl dX5_copyNodes_77 ?_
      refine j_iload dX5_copyNodes_80 1 rfl ?_
      refine j_aload_n dX5_copyNodes_82 2 rfl ?_
      refine m_geta mf_37 rfl dX5_copyNodes_83 ?_
      refine j_iload dX5_copyNodes_86 0 rfl ?_
      obtain ⟨x8, hx8, hf⟩ := obb hf
      refine m_iald mr_37 hx8 dX5_copyNodes_88 ?_
      obtain ⟨u9, hu9, hf⟩ := obb hf
      refine m_iast mr_37 hu9 dX5_copyNodes_89 ?_
      refine j_aload_n dX5_copyNodes_90 2 rfl ?_
      refine m_geta mf_33 rfl dX5_copyNodes_91 ?_
      refine j_iload_n dX5_copyNodes_94 3 rfl ?_
      refine j_dup2_11 dX5_copyNodes_95 rfl rfl ?_
      obtain ⟨x10, hx10, hf⟩ := obb hf
      refine m_iald mr_33 hx10 dX5_copyNodes_96 ?_
      refine j_iconst dX5_copyNodes_97 ?_
      refine j_iadd dX5_copyNodes_98 ?_
      obtain ⟨u11, hu11, hf⟩ := obb hf
      refine m_iast mr_33 hu11 dX5_copyNodes_99 ?_
      refine j_iinc dX5_copyNodes_100 6 rfl [(5, pI (v5 + 1)), (7, pI ((2400 * v2) + v5)), (6, pI ((2400 * v1) + x1)), (0, pR (some G.1)), (1, pI v1), (2, pI v2), (4, pI v4)] (Nat.le_of_ble_eq_true rfl) rfl ?_
      refine j_goto 3 dX5_copyNodes_103 (by decide) ?_
      exact j_sub [3, 4, 5, 6, 0] _ rfl (ih (v5 + 1) u11 hf)
theorem c5_copyNodes {G : MG} {l : Launch} {r : Mu} (v1 : Int) (v2 : Int) (v3 : Int) (v4 : Int) (u : Mu) (hf : m5_copyNodes v1 v2 v3 v4 u = some r) : JM kT (bM G) (aM G) l yX5_copyNodes D5_copyNodes [pR (some G.1), pI v1, pI v2, pI v3, pI v4] u none r 0 0 := by
  refine j_met (lv0 := [(0, pR (some G.1)), (1, pI v1), (2, pI v2), (3, pI v3), (4, pI v4)]) ⟨pl_X5, rfl, rfl, (Nat.le_of_ble_eq_true rfl), rfl⟩ ?_
  unfold m5_copyNodes at hf
  refine j_iload_n dX5_copyNodes_0 3 rfl ?_
  refine j_istore dX5_copyNodes_1 [(5, pI v3), (0, pR (some G.1)), (1, pI v1), (2, pI v2), (3, pI v3), (4, pI v4)] (Nat.le_of_ble_eq_true rfl) rfl ?_
  refine j_sub [1, 2, 3, 5, 0] _ rfl (c5_copyNodes_l3 v1 v2 v4 ?_ NN v3 u hf)
  · intro q1 hf
    replace hf := Option.some.inj hf
    subst hf
    exact j_return (bM_mv G) ⟨Nat.le_refl 0, Nat.le_refl 0⟩ rfl dX5_copyNodes_106
theorem c5_putClause {G : MG} {l : Launch} {r : Mu} (v1 : Int) (v2 : Int) (u : Mu) (hf : m5_putClause v1 v2 u = some r) : JM kT (bM G) (aM G) l yX5_putClause D5_putClause [pR (some G.1), pI v1, pI v2] u none r 0 0 := by
  refine j_met (lv0 := [(0, pR (some G.1)), (1, pI v1), (2, pI v2)]) ⟨pl_X5, rfl, rfl, (Nat.le_of_ble_eq_true rfl), rfl⟩ ?_
  unfold m5_putClause at hf
  refine j_aload_n dX5_putClause_0 0 rfl ?_
  refine m_geta mf_24 rfl dX5_putClause_1 ?_
  refine j_bipush dX5_putClause_4 (by decide) ?_
  refine j_iload_n dX5_putClause_6 1 rfl ?_
  refine j_imul dX5_putClause_7 ?_
  refine j_aload_n dX5_putClause_8 0 rfl ?_
  refine m_geta mf_23 rfl dX5_putClause_9 ?_
  refine j_iload_n dX5_putClause_12 1 rfl ?_
  obtain ⟨x1, hx1, hf⟩ := ob hf
  refine m_iald mr_23 hx1 dX5_putClause_13 ?_
  refine j_iadd dX5_putClause_14 ?_
  refine j_aload_n dX5_putClause_15 0 rfl ?_
  refine m_geta mf_53 rfl dX5_putClause_16 ?_
  refine j_iload_n dX5_putClause_19 2 rfl ?_
  obtain ⟨x2, hx2, hf⟩ := ob hf
  refine m_iald mr_53 hx2 dX5_putClause_20 ?_
  obtain ⟨u3, hu3, hf⟩ := ob hf
  refine m_iast mr_24 hu3 dX5_putClause_21 ?_
  refine j_aload_n dX5_putClause_22 0 rfl ?_
  refine m_geta mf_25 rfl dX5_putClause_23 ?_
  refine j_bipush dX5_putClause_26 (by decide) ?_
  refine j_iload_n dX5_putClause_28 1 rfl ?_
  refine j_imul dX5_putClause_29 ?_
  refine j_aload_n dX5_putClause_30 0 rfl ?_
  refine m_geta mf_23 rfl dX5_putClause_31 ?_
  refine j_iload_n dX5_putClause_34 1 rfl ?_
  obtain ⟨x4, hx4, hf⟩ := ob hf
  refine m_iald mr_23 hx4 dX5_putClause_35 ?_
  refine j_iadd dX5_putClause_36 ?_
  refine j_aload_n dX5_putClause_37 0 rfl ?_
  refine m_geta mf_33 rfl dX5_putClause_38 ?_
  refine j_iload_n dX5_putClause_41 1 rfl ?_
  obtain ⟨x5, hx5, hf⟩ := ob hf
  refine m_iald mr_33 hx5 dX5_putClause_42 ?_
  obtain ⟨u6, hu6, hf⟩ := ob hf
  refine m_iast mr_25 hu6 dX5_putClause_43 ?_
  refine j_aload_n dX5_putClause_44 0 rfl ?_
  refine j_iload_n dX5_putClause_45 1 rfl ?_
  refine j_aload_n dX5_putClause_46 0 rfl ?_
  refine m_geta mf_54 rfl dX5_putClause_47 ?_
  refine j_iload_n dX5_putClause_50 2 rfl ?_
  obtain ⟨x7, hx7, hf⟩ := ob hf
  refine m_iald mr_54 hx7 dX5_putClause_51 ?_
  refine j_aload_n dX5_putClause_52 0 rfl ?_
  refine m_geta mf_55 rfl dX5_putClause_53 ?_
  refine j_iload_n dX5_putClause_56 2 rfl ?_
  obtain ⟨x8, hx8, hf⟩ := ob hf
  refine m_iald mr_55 hx8 dX5_putClause_57 ?_
  obtain ⟨u9, hu9, hf⟩ := ob hf
  refine j_cVv [pI v1, pI x7, pI x8] [] kT_v (bM_mv G) (c5_takeNodes v1 x7 x8 u6 hu9) wv5_takeNodes dv5_takeNodes rfl ⟨(Nat.le_of_ble_eq_true rfl), (Nat.le_of_ble_eq_true rfl)⟩ (m_recv u6) rfl (Nat.le_of_ble_eq_true rfl) dX5_putClause_58 ⟨Nat.le_refl 0, Nat.le_refl 0⟩ ?_
  refine j_aload_n dX5_putClause_61 0 rfl ?_
  refine m_geta mf_26 rfl dX5_putClause_62 ?_
  refine j_bipush dX5_putClause_65 (by decide) ?_
  refine j_iload_n dX5_putClause_67 1 rfl ?_
  refine j_imul dX5_putClause_68 ?_
  refine j_aload_n dX5_putClause_69 0 rfl ?_
  refine m_geta mf_23 rfl dX5_putClause_70 ?_
  refine j_iload_n dX5_putClause_73 1 rfl ?_
  obtain ⟨x10, hx10, hf⟩ := ob hf
  refine m_iald mr_23 hx10 dX5_putClause_74 ?_
  refine j_iadd dX5_putClause_75 ?_
  refine j_aload_n dX5_putClause_76 0 rfl ?_
  refine m_geta mf_33 rfl dX5_putClause_77 ?_
  refine j_iload_n dX5_putClause_80 1 rfl ?_
  obtain ⟨x11, hx11, hf⟩ := ob hf
  refine m_iald mr_33 hx11 dX5_putClause_81 ?_
  obtain ⟨u12, hu12, hf⟩ := ob hf
  refine m_iast mr_26 hu12 dX5_putClause_82 ?_
  refine j_aload_n dX5_putClause_83 0 rfl ?_
  refine m_geta mf_23 rfl dX5_putClause_84 ?_
  refine j_iload_n dX5_putClause_87 1 rfl ?_
  refine j_dup2_11 dX5_putClause_88 rfl rfl ?_
  obtain ⟨x13, hx13, hf⟩ := ob hf
  refine m_iald mr_23 hx13 dX5_putClause_89 ?_
  refine j_iconst dX5_putClause_90 ?_
  refine j_iadd dX5_putClause_91 ?_
  obtain ⟨u14, hu14, hf⟩ := ob hf
  refine m_iast mr_23 hu14 dX5_putClause_92 ?_
  replace hf := Option.some.inj hf
  subst hf
  exact j_return (bM_mv G) ⟨Nat.le_refl 0, Nat.le_refl 0⟩ rfl dX5_putClause_93
theorem c5_join_b84 {G : MG} {l : Launch} {a : List PV} {r : Mu} {Kf : Int × Int → Option (Mu)} {v1 : Int} {v2 : Int} {u : Mu} (kh : Int → Int → Int → Option (Int × Int)) (hkh : ∀ (z3 : Int) (z4 : Int) (z5 : Int), ((kh z3 z4 z5).bind Kf = some r) → J5 G l D5_join a none r u 11 [(0, pR (some G.1)), (1, pI v1), (2, pI v2), (3, pI z3), (4, pI z4), (5, pI z5)] []) (hK0 : ∀ q : Int × Int, Kf q = some r → J5 G l D5_join a none r u 93 [(0, pR (some G.1)), (1, pI v1), (2, pI v2), (3, pI q.1), (4, pI q.2)] []) (v3 : Int) (v5 : Int) (s0 : Int) (s1 : Int) (hf : (m5_join_b84 kh v1 v2 v3 v5 s0 s1 u).bind Kf = some r) : J5 G l D5_join a none r u 84 [(0, pR (some G.1)), (1, pI v1), (2, pI v2), (3, pI v3), (5, pI v5)] [pI s1, pI s0] := by
  unfold m5_join_b84 at hf
  refine j_iadd dX5_join_84 ?_
  refine j_istore dX5_join_85 [(4, pI (s0 + s1)), (0, pR (some G.1)), (1, pI v1), (2, pI v2), (3, pI v3), (5, pI v5)] (Nat.le_of_ble_eq_true rfl) rfl ?_
  refine j_iinc dX5_join_87 5 rfl [(5, pI (v5 + 1)), (4, pI (s0 + s1)), (0, pR (some G.1)), (1, pI v1), (2, pI v2), (3, pI v3)] (Nat.le_of_ble_eq_true rfl) rfl ?_
  refine j_goto 11 dX5_join_90 (by decide) ?_
  exact j_sub [2, 3, 4, 5, 1, 0] _ rfl (hkh v3 (s0 + s1) (v5 + 1) hf)
theorem c5_join_b40 {G : MG} {l : Launch} {a : List PV} {r : Mu} {Kf : Int × Int → Option (Mu)} {v1 : Int} {v2 : Int} {u : Mu} (kh : Int → Int → Int → Option (Int × Int)) (hkh : ∀ (z3 : Int) (z4 : Int) (z5 : Int), ((kh z3 z4 z5).bind Kf = some r) → J5 G l D5_join a none r u 11 [(0, pR (some G.1)), (1, pI v1), (2, pI v2), (3, pI z3), (4, pI z4), (5, pI z5)] []) (hK0 : ∀ q : Int × Int, Kf q = some r → J5 G l D5_join a none r u 93 [(0, pR (some G.1)), (1, pI v1), (2, pI v2), (3, pI q.1), (4, pI q.2)] []) (v4 : Int) (v5 : Int) (s0 : Int) (s1 : Int) (hf : (m5_join_b40 kh v1 v2 v4 v5 s0 s1 u).bind Kf = some r) : J5 G l D5_join a none r u 40 [(0, pR (some G.1)), (1, pI v1), (2, pI v2), (4, pI v4), (5, pI v5)] [pI s1, pI s0] := by
  unfold m5_join_b40 at hf
  refine j_iadd dX5_join_40 ?_
  refine j_istore_n dX5_join_41 [(3, pI (s0 + s1)), (0, pR (some G.1)), (1, pI v1), (2, pI v2), (4, pI v4), (5, pI v5)] (Nat.le_of_ble_eq_true rfl) rfl ?_
  refine j_iload dX5_join_42 4 rfl ?_
  refine j_aload_n dX5_join_44 1 rfl ?_
  refine m_geta mf_57 rfl dX5_join_45 ?_
  refine j_iload dX5_join_48 5 rfl ?_
  obtain ⟨x1, hx1, hf⟩ := obb hf
  refine m_iald mr_57 hx1 dX5_join_50 ?_
  refine j_iconst dX5_join_51 ?_
  refine j_icmp_ne (w32 x1) (-1) rfl rfl 83 dX5_join_52 (by decide) (fun h4 => ?_) (fun h4 => ?_)
  · replace hf := ieb h4 hf
    refine j_iconst dX5_join_83 ?_
    exact j_sub [1, 2, 3, 0, 5] _ rfl (c5_join_b84 (kh) hkh hK0 (s0 + s1) v5 v4 0 hf)
  · replace hf := itb h4 hf
    refine j_aload_n dX5_join_55 1 rfl ?_
    refine m_geta mf_26 rfl dX5_join_56 ?_
    refine j_bipush dX5_join_59 (by decide) ?_
    refine j_iload_n dX5_join_61 3 rfl ?_
    refine j_imul dX5_join_62 ?_
    refine j_iload dX5_join_63 5 rfl ?_
    refine j_iadd dX5_join_65 ?_
    obtain ⟨x2, hx2, hf⟩ := obb hf
    refine m_iald mr_26 hx2 dX5_join_66 ?_
    refine j_aload_n dX5_join_67 1 rfl ?_
    refine m_geta mf_25 rfl dX5_join_68 ?_
    refine j_bipush dX5_join_71 (by decide) ?_
    refine j_iload_n dX5_join_73 3 rfl ?_
    refine j_imul dX5_join_74 ?_
    refine j_iload dX5_join_75 5 rfl ?_
    refine j_iadd dX5_join_77 ?_
    obtain ⟨x3, hx3, hf⟩ := obb hf
    refine m_iald mr_25 hx3 dX5_join_78 ?_
    refine j_isub dX5_join_79 ?_
    refine j_goto 84 dX5_join_80 (by decide) ?_
    exact j_sub [1, 2, 3, 0, 5] _ rfl (c5_join_b84 (kh) hkh hK0 (s0 + s1) v5 v4 (x2 - x3) hf)
theorem c5_join_l11 {G : MG} {l : Launch} {a : List PV} {r : Mu} {Kf : Int × Int → Option (Mu)} (v1 : Int) (v2 : Int) (u : Mu) (hK0 : ∀ q : Int × Int, Kf q = some r → J5 G l D5_join a none r u 93 [(0, pR (some G.1)), (1, pI v1), (2, pI v2), (3, pI q.1), (4, pI q.2)] []) : ∀ (n : Nat) (v3 : Int) (v4 : Int) (v5 : Int), ((m5_join_l11 v1 v2 u n v3 v4 v5).bind Kf = some r) → J5 G l D5_join a none r u 11 [(0, pR (some G.1)), (1, pI v1), (2, pI v2), (3, pI v3), (4, pI v4), (5, pI v5)] [] := by
  intro n
  induction n with
  | zero => intro v3 v4 v5 hf; exact onb hf
  | succ n ih =>
    intro v3 v4 v5 hf
    unfold m5_join_l11 at hf
    refine j_iload dX5_join_11 5 rfl ?_
    refine j_aload_n dX5_join_13 0 rfl ?_
    refine m_geta mf_23 rfl dX5_join_14 ?_
    refine j_iload_n dX5_join_17 2 rfl ?_
    obtain ⟨x1, hx1, hf⟩ := obb hf
    refine m_iald mr_23 hx1 dX5_join_18 ?_
    refine j_icmp_ge (w32 v5) (w32 x1) rfl rfl 93 dX5_join_19 (by decide) (fun h4 => ?_) (fun h4 => ?_)
    · replace hf := itb h4 hf
      exact j_sub [0, 1, 2, 3, 4] _ rfl (hK0 (v3, v4) hf)
    · replace hf := ieb h4 hf
      refine j_iload_n dX5_join_22 3 rfl ?_
      refine j_aload_n dX5_join_23 0 rfl ?_
      refine m_geta mf_57 rfl dX5_join_24 ?_
      refine j_iload dX5_join_27 5 rfl ?_
      obtain ⟨x2, hx2, hf⟩ := obb hf
      refine m_iald mr_57 hx2 dX5_join_29 ?_
      refine j_bipush dX5_join_30 (by decide) ?_
      refine j_icmp_eq (w32 x2) (-2) rfl rfl 39 dX5_join_32 (by decide) (fun h3 => ?_) (fun h3 => ?_)
      · replace hf := itb h3 hf
        refine j_iconst dX5_join_39 ?_
        exact j_sub [0, 1, 2, 4, 5] _ rfl (c5_join_b40 (m5_join_l11 v1 v2 u n) ih hK0 v4 v5 v3 0 hf)
      · replace hf := ieb h3 hf
        refine j_iconst dX5_join_35 ?_
        refine j_goto 40 dX5_join_36 (by decide) ?_
        exact j_sub [0, 1, 2, 4, 5] _ rfl (c5_join_b40 (m5_join_l11 v1 v2 u n) ih hK0 v4 v5 v3 1 hf)
theorem c5_join_l96 {G : MG} {l : Launch} {a : List PV} {r : Mu} {Kf : Int → Option (Mu)} (v1 : Int) (v2 : Int) (v3 : Int) (u : Mu) (hK0 : ∀ q : Int, Kf q = some r → J5 G l D5_join a none r u 143 [(0, pR (some G.1)), (1, pI v1), (2, pI v2), (3, pI v3), (4, pI q)] []) : ∀ (n : Nat) (v4 : Int) (v5 : Int), ((m5_join_l96 v1 v2 v3 u n v4 v5).bind Kf = some r) → J5 G l D5_join a none r u 96 [(0, pR (some G.1)), (1, pI v1), (2, pI v2), (3, pI v3), (4, pI v4), (5, pI v5)] [] := by
  intro n
  induction n with
  | zero => intro v4 v5 hf; exact onb hf
  | succ n ih =>
    intro v4 v5 hf
    unfold m5_join_l96 at hf
    refine j_iload dX5_join_96 5 rfl ?_
    refine j_aload_n dX5_join_98 0 rfl ?_
    refine m_geta mf_19 rfl dX5_join_99 ?_
    refine j_iload_n dX5_join_102 2 rfl ?_
    obtain ⟨x1, hx1, hf⟩ := obb hf
    refine m_iald mr_19 hx1 dX5_join_103 ?_
    refine j_icmp_ge (w32 v5) (w32 x1) rfl rfl 143 dX5_join_104 (by decide) (fun h4 => ?_) (fun h4 => ?_)
    · replace hf := itb h4 hf
      exact j_sub [0, 1, 2, 3, 4] _ rfl (hK0 v4 hf)
    · replace hf := ieb h4 hf
      refine j_iload dX5_join_107 4 rfl ?_
      refine j_aload_n dX5_join_109 0 rfl ?_
      refine m_geta mf_22 rfl dX5_join_110 ?_
      refine j_bipush dX5_join_113 (by decide) ?_
      refine j_iload_n dX5_join_115 2 rfl ?_
      refine j_imul dX5_join_116 ?_
      refine j_iload dX5_join_117 5 rfl ?_
      refine j_iadd dX5_join_119 ?_
      obtain ⟨x2, hx2, hf⟩ := obb hf
      refine m_iald mr_22 hx2 dX5_join_120 ?_
      refine j_aload_n dX5_join_121 0 rfl ?_
      refine m_geta mf_21 rfl dX5_join_122 ?_
      refine j_bipush dX5_join_125 (by decide) ?_
      refine j_iload_n dX5_join_127 2 rfl ?_
      refine j_imul dX5_join_128 ?_
      refine j_iload dX5_join_129 5 rfl ?_
      refine j_iadd dX5_join_131 ?_
      obtain ⟨x3, hx3, hf⟩ := obb hf
      refine m_iald mr_21 hx3 dX5_join_132 ?_
      refine j_isub dX5_join_133 ?_
      refine j_iadd dX5_join_134 ?_
      refine j_istore dX5_join_135 [(4, pI (v4 + (x2 - x3))), (0, pR (some G.1)), (1, pI v1), (2, pI v2), (3, pI v3), (5, pI v5)] (Nat.le_of_ble_eq_true rfl) rfl ?_
      refine j_iinc dX5_join_137 5 rfl [(5, pI (v5 + 1)), (4, pI (v4 + (x2 - x3))), (0, pR (some G.1)), (1, pI v1), (2, pI v2), (3, pI v3)] (Nat.le_of_ble_eq_true rfl) rfl ?_
      refine j_goto 96 dX5_join_140 (by decide) ?_
      exact j_sub [2, 3, 4, 5, 1, 0] _ rfl (ih (v4 + (x2 - x3)) (v5 + 1) hf)
theorem c5_join_l146 {G : MG} {l : Launch} {a : List PV} {r : Mu} {Kf : Int → Option (Mu)} (v1 : Int) (v2 : Int) (v3 : Int) (u : Mu) (hK0 : ∀ q : Int, Kf q = some r → J5 G l D5_join a none r u 193 [(0, pR (some G.1)), (1, pI v1), (2, pI v2), (3, pI v3), (4, pI q)] []) : ∀ (n : Nat) (v4 : Int) (v5 : Int), ((m5_join_l146 v1 v2 v3 u n v4 v5).bind Kf = some r) → J5 G l D5_join a none r u 146 [(0, pR (some G.1)), (1, pI v1), (2, pI v2), (3, pI v3), (4, pI v4), (5, pI v5)] [] := by
  intro n
  induction n with
  | zero => intro v4 v5 hf; exact onb hf
  | succ n ih =>
    intro v4 v5 hf
    unfold m5_join_l146 at hf
    refine j_iload dX5_join_146 5 rfl ?_
    refine j_aload_n dX5_join_148 0 rfl ?_
    refine m_geta mf_27 rfl dX5_join_149 ?_
    refine j_iload_n dX5_join_152 2 rfl ?_
    obtain ⟨x1, hx1, hf⟩ := obb hf
    refine m_iald mr_27 hx1 dX5_join_153 ?_
    refine j_icmp_ge (w32 v5) (w32 x1) rfl rfl 193 dX5_join_154 (by decide) (fun h4 => ?_) (fun h4 => ?_)
    · replace hf := itb h4 hf
      exact j_sub [0, 1, 2, 3, 4] _ rfl (hK0 v4 hf)
    · replace hf := ieb h4 hf
      refine j_iload dX5_join_157 4 rfl ?_
      refine j_aload_n dX5_join_159 0 rfl ?_
      refine m_geta mf_31 rfl dX5_join_160 ?_
      refine j_bipush dX5_join_163 (by decide) ?_
      refine j_iload_n dX5_join_165 2 rfl ?_
      refine j_imul dX5_join_166 ?_
      refine j_iload dX5_join_167 5 rfl ?_
      refine j_iadd dX5_join_169 ?_
      obtain ⟨x2, hx2, hf⟩ := obb hf
      refine m_iald mr_31 hx2 dX5_join_170 ?_
      refine j_aload_n dX5_join_171 0 rfl ?_
      refine m_geta mf_30 rfl dX5_join_172 ?_
      refine j_bipush dX5_join_175 (by decide) ?_
      refine j_iload_n dX5_join_177 2 rfl ?_
      refine j_imul dX5_join_178 ?_
      refine j_iload dX5_join_179 5 rfl ?_
      refine j_iadd dX5_join_181 ?_
      obtain ⟨x3, hx3, hf⟩ := obb hf
      refine m_iald mr_30 hx3 dX5_join_182 ?_
      refine j_isub dX5_join_183 ?_
      refine j_iadd dX5_join_184 ?_
      refine j_istore dX5_join_185 [(4, pI (v4 + (x2 - x3))), (0, pR (some G.1)), (1, pI v1), (2, pI v2), (3, pI v3), (5, pI v5)] (Nat.le_of_ble_eq_true rfl) rfl ?_
      refine j_iinc dX5_join_187 5 rfl [(5, pI (v5 + 1)), (4, pI (v4 + (x2 - x3))), (0, pR (some G.1)), (1, pI v1), (2, pI v2), (3, pI v3)] (Nat.le_of_ble_eq_true rfl) rfl ?_
      refine j_goto 146 dX5_join_190 (by decide) ?_
      exact j_sub [2, 3, 4, 5, 1, 0] _ rfl (ih (v4 + (x2 - x3)) (v5 + 1) hf)
theorem c5_join_b221 {G : MG} {l : Launch} {a : List PV} {r : Mu} {Kf : Int → Option (Mu)} {v1 : Int} {v2 : Int} {v4 : Int} {u : Mu} (kh : Int → Int → Option (Int)) (hkh : ∀ (z3 : Int) (z5 : Int), ((kh z3 z5).bind Kf = some r) → J5 G l D5_join a none r u 196 [(0, pR (some G.1)), (1, pI v1), (2, pI v2), (3, pI z3), (4, pI v4), (5, pI z5)] []) (hK0 : ∀ q : Int, Kf q = some r → J5 G l D5_join a none r u 229 [(0, pR (some G.1)), (1, pI v1), (2, pI v2), (3, pI q), (4, pI v4)] []) (v5 : Int) (s0 : Int) (s1 : Int) (hf : (m5_join_b221 kh v1 v2 v4 v5 s0 s1 u).bind Kf = some r) : J5 G l D5_join a none r u 221 [(0, pR (some G.1)), (1, pI v1), (2, pI v2), (4, pI v4), (5, pI v5)] [pI s1, pI s0] := by
  unfold m5_join_b221 at hf
  refine j_iadd dX5_join_221 ?_
  refine j_istore_n dX5_join_222 [(3, pI (s0 + s1)), (0, pR (some G.1)), (1, pI v1), (2, pI v2), (4, pI v4), (5, pI v5)] (Nat.le_of_ble_eq_true rfl) rfl ?_
  refine j_iinc dX5_join_223 5 rfl [(5, pI (v5 + 1)), (3, pI (s0 + s1)), (0, pR (some G.1)), (1, pI v1), (2, pI v2), (4, pI v4)] (Nat.le_of_ble_eq_true rfl) rfl ?_
  refine j_goto 196 dX5_join_226 (by decide) ?_
  exact j_sub [2, 3, 4, 1, 5, 0] _ rfl (hkh (s0 + s1) (v5 + 1) hf)
theorem c5_join_l196 {G : MG} {l : Launch} {a : List PV} {r : Mu} {Kf : Int → Option (Mu)} (v1 : Int) (v2 : Int) (v4 : Int) (u : Mu) (hK0 : ∀ q : Int, Kf q = some r → J5 G l D5_join a none r u 229 [(0, pR (some G.1)), (1, pI v1), (2, pI v2), (3, pI q), (4, pI v4)] []) : ∀ (n : Nat) (v3 : Int) (v5 : Int), ((m5_join_l196 v1 v2 v4 u n v3 v5).bind Kf = some r) → J5 G l D5_join a none r u 196 [(0, pR (some G.1)), (1, pI v1), (2, pI v2), (3, pI v3), (4, pI v4), (5, pI v5)] [] := by
  intro n
  induction n with
  | zero => intro v3 v5 hf; exact onb hf
  | succ n ih =>
    intro v3 v5 hf
    unfold m5_join_l196 at hf
    refine j_iload dX5_join_196 5 rfl ?_
    refine j_aload_n dX5_join_198 0 rfl ?_
    refine m_geti mf_56 rfl dX5_join_199 ?_
    refine j_icmp_ge (w32 v5) (w32 (u.1 56)) rfl rfl 229 dX5_join_202 (by decide) (fun h3 => ?_) (fun h3 => ?_)
    · replace hf := itb h3 hf
      exact j_sub [0, 1, 2, 3, 4] _ rfl (hK0 v3 hf)
    · replace hf := ieb h3 hf
      refine j_iload_n dX5_join_205 3 rfl ?_
      refine j_aload_n dX5_join_206 0 rfl ?_
      refine m_geta mf_58 rfl dX5_join_207 ?_
      refine j_iload dX5_join_210 5 rfl ?_
      obtain ⟨x1, hx1, hf⟩ := obb hf
      refine m_zald mr_58 hx1 dX5_join_212 ?_
      refine j_if_eq (w32 x1) rfl 220 dX5_join_213 (by decide) (fun h2 => ?_) (fun h2 => ?_)
      · replace hf := itb h2 hf
        refine j_iconst dX5_join_220 ?_
        exact j_sub [0, 1, 2, 4, 5] _ rfl (c5_join_b221 (m5_join_l196 v1 v2 v4 u n) ih hK0 v5 v3 1 hf)
      · replace hf := ieb h2 hf
        refine j_iconst dX5_join_216 ?_
        refine j_goto 221 dX5_join_217 (by decide) ?_
        exact j_sub [0, 1, 2, 4, 5] _ rfl (c5_join_b221 (m5_join_l196 v1 v2 v4 u n) ih hK0 v5 v3 0 hf)
theorem c5_join_b243 {G : MG} {l : Launch} {a : List PV} {r : Mu} (u : Mu) (hf : m5_join_b243 u = some r) : J5 G l D5_join a none r u 243 [(0, pR (some G.1))] [] := by
  unfold m5_join_b243 at hf
  refine j_aload_n dX5_join_243 0 rfl ?_
  refine j_bipush dX5_join_244 (by decide) ?_
  obtain ⟨u1, hu1, hf⟩ := ob hf
  refine j_cVv [pI 6] [] kT_v (bM_mv G) (c5_wrong 6 u hu1) wv5_wrong dv5_wrong rfl ⟨(Nat.le_of_ble_eq_true rfl), (Nat.le_of_ble_eq_true rfl)⟩ (m_recv u) rfl (Nat.le_of_ble_eq_true rfl) dX5_join_246 ⟨Nat.le_refl 0, Nat.le_refl 0⟩ ?_
  replace hf := Option.some.inj hf
  subst hf
  exact j_return (bM_mv G) ⟨Nat.le_refl 0, Nat.le_refl 0⟩ rfl dX5_join_249
theorem c5_join_l264 {G : MG} {l : Launch} {a : List PV} {r : Mu} {Kf : Mu → Option (Mu)} (v1 : Int) (v2 : Int) (hK0 : ∀ q : Mu, Kf q = some r → J5 G l D5_join a none r q 347 [(0, pR (some G.1)), (1, pI v1), (2, pI v2)] []) : ∀ (n : Nat) (v5 : Int) (u : Mu), ((m5_join_l264 v1 v2 n v5 u).bind Kf = some r) → J5 G l D5_join a none r u 264 [(0, pR (some G.1)), (1, pI v1), (2, pI v2), (5, pI v5)] [] := by
  intro n
  induction n with
  | zero => intro v5 u hf; exact onb hf
  | succ n ih =>
    intro v5 u hf
    unfold m5_join_l264 at hf
    refine j_iload dX5_join_264 3 rfl ?_
    refine j_aload_n dX5_join_266 0 rfl ?_
    refine m_geta mf_19 rfl dX5_join_267 ?_
    refine j_iload_n dX5_join_270 2 rfl ?_
    obtain ⟨x1, hx1, hf⟩ := obb hf
    refine m_iald mr_19 hx1 dX5_join_271 ?_
    refine j_icmp_ge (w32 v5) (w32 x1) rfl rfl 347 dX5_join_272 (by decide) (fun h9 => ?_) (fun h9 => ?_)
    · replace hf := itb h9 hf
      exact j_sub [0, 1, 2] _ rfl (hK0 u hf)
    · replace hf := ieb h9 hf
      refine j_aload_n dX5_join_275 0 rfl ?_
      refine m_geta mf_21 rfl dX5_join_276 ?_
      refine j_bipush dX5_join_279 (by decide) ?_
      refine j_iload_n dX5_join_281 1 rfl ?_
      refine j_imul dX5_join_282 ?_
      refine j_iload dX5_join_283 3 rfl ?_
      refine j_iadd dX5_join_285 ?_
      refine j_aload_n dX5_join_286 0 rfl ?_
      refine m_geta mf_33 rfl dX5_join_287 ?_
      refine j_iload_n dX5_join_290 1 rfl ?_
      obtain ⟨x2, hx2, hf⟩ := obb hf
      refine m_iald mr_33 hx2 dX5_join_291 ?_
      obtain ⟨u3, hu3, hf⟩ := obb hf
      refine m_iast mr_21 hu3 dX5_join_292 ?_
      refine j_aload_n dX5_join_293 0 rfl ?_
      refine j_iload_n dX5_join_294 1 rfl ?_
      refine j_iload_n dX5_join_295 2 rfl ?_
      refine j_aload_n dX5_join_296 0 rfl ?_
      refine m_geta mf_21 rfl dX5_join_297 ?_
      refine j_bipush dX5_join_300 (by decide) ?_
      refine j_iload_n dX5_join_302 2 rfl ?_
      refine j_imul dX5_join_303 ?_
      refine j_iload dX5_join_304 3 rfl ?_
      refine j_iadd dX5_join_306 ?_
      obtain ⟨x4, hx4, hf⟩ := obb hf
      refine m_iald mr_21 hx4 dX5_join_307 ?_
      refine j_aload_n dX5_join_308 0 rfl ?_
      refine m_geta mf_22 rfl dX5_join_309 ?_
      refine j_bipush dX5_join_312 (by decide) ?_
      refine j_iload_n dX5_join_314 2 rfl ?_
      refine j_imul dX5_join_315 ?_
      refine j_iload dX5_join_316 3 rfl ?_
      refine j_iadd dX5_join_318 ?_
      obtain ⟨x5, hx5, hf⟩ := obb hf
      refine m_iald mr_22 hx5 dX5_join_319 ?_
      obtain ⟨u6, hu6, hf⟩ := obb hf
      refine j_cVv [pI v1, pI v2, pI x4, pI x5] [] kT_v (bM_mv G) (c5_copyNodes v1 v2 x4 x5 u3 hu6) wv5_copyNodes dv5_copyNodes rfl ⟨(Nat.le_of_ble_eq_true rfl), (Nat.le_of_ble_eq_true rfl)⟩ (m_recv u3) rfl (Nat.le_of_ble_eq_true rfl) dX5_join_320 ⟨Nat.le_refl 0, Nat.le_refl 0⟩ ?_
      refine j_aload_n dX5_join_323 0 rfl ?_
      refine m_geta mf_22 rfl dX5_join_324 ?_
      refine j_bipush dX5_join_327 (by decide) ?_
      refine j_iload_n dX5_join_329 1 rfl ?_
      refine j_imul dX5_join_330 ?_
      refine j_iload dX5_join_331 3 rfl ?_
      refine j_iadd dX5_join_333 ?_
      refine j_aload_n dX5_join_334 0 rfl ?_
      refine m_geta mf_33 rfl dX5_join_335 ?_
      refine j_iload_n dX5_join_338 1 rfl ?_
      obtain ⟨x7, hx7, hf⟩ := obb hf
      refine m_iald mr_33 hx7 dX5_join_339 ?_
      obtain ⟨u8, hu8, hf⟩ := obb hf
      refine m_iast mr_22 hu8 dX5_join_340 ?_
      refine j_iinc dX5_join_341 3 rfl [(5, pI (v5 + 1)), (0, pR (some G.1)), (1, pI v1), (2, pI v2)] (Nat.le_of_ble_eq_true rfl) rfl ?_
      refine j_goto 264 dX5_join_344 (by decide) ?_
      exact j_sub [1, 2, 3, 0] _ rfl (ih (v5 + 1) u8 hf)
theorem c5_join_l350 {G : MG} {l : Launch} {a : List PV} {r : Mu} {Kf : Mu → Option (Mu)} (v1 : Int) (v2 : Int) (hK0 : ∀ q : Mu, Kf q = some r → J5 G l D5_join a none r q 515 [(0, pR (some G.1)), (1, pI v1), (2, pI v2)] []) : ∀ (n : Nat) (v5 : Int) (u : Mu), ((m5_join_l350 v1 v2 n v5 u).bind Kf = some r) → J5 G l D5_join a none r u 350 [(0, pR (some G.1)), (1, pI v1), (2, pI v2), (5, pI v5)] [] := by
  intro n
  induction n with
  | zero => intro v5 u hf; exact onb hf
  | succ n ih =>
    intro v5 u hf
    unfold m5_join_l350 at hf
    refine j_iload dX5_join_350 3 rfl ?_
    refine j_aload_n dX5_join_352 0 rfl ?_
    refine m_geta mf_23 rfl dX5_join_353 ?_
    refine j_iload_n dX5_join_356 2 rfl ?_
    obtain ⟨x1, hx1, hf⟩ := obb hf
    refine m_iald mr_23 hx1 dX5_join_357 ?_
    refine j_icmp_ge (w32 v5) (w32 x1) rfl rfl 515 dX5_join_358 (by decide) (fun h22 => ?_) (fun h22 => ?_)
    · replace hf := itb h22 hf
      exact j_sub [0, 1, 2] _ rfl (hK0 u hf)
    · replace hf := ieb h22 hf
      refine j_aload_n dX5_join_361 0 rfl ?_
      refine m_geta mf_57 rfl dX5_join_362 ?_
      refine j_iload dX5_join_365 3 rfl ?_
      obtain ⟨x2, hx2, hf⟩ := obb hf
      refine m_iald mr_57 hx2 dX5_join_367 ?_
      refine j_iconst dX5_join_368 ?_
      refine j_icmp_ne (w32 x2) (-1) rfl rfl 487 dX5_join_369 (by decide) (fun h21 => ?_) (fun h21 => ?_)
      · replace hf := ieb h21 hf
        refine j_aload_n dX5_join_487 0 rfl ?_
        refine m_geta mf_57 rfl dX5_join_488 ?_
        refine j_iload dX5_join_491 3 rfl ?_
        obtain ⟨x3, hx3, hf⟩ := obb hf
        refine m_iald mr_57 hx3 dX5_join_493 ?_
        refine j_if_lt (w32 x3) rfl 509 dX5_join_494 (by decide) (fun h6 => ?_) (fun h6 => ?_)
        · replace hf := itb h6 hf
          refine j_iinc dX5_join_509 3 rfl [(5, pI (v5 + 1)), (0, pR (some G.1)), (1, pI v1), (2, pI v2)] (Nat.le_of_ble_eq_true rfl) rfl ?_
          refine j_goto 350 dX5_join_512 (by decide) ?_
          exact j_sub [1, 2, 3, 0] _ rfl (ih (v5 + 1) u hf)
        · replace hf := ieb h6 hf
          refine j_aload_n dX5_join_497 0 rfl ?_
          refine j_iload_n dX5_join_498 1 rfl ?_
          refine j_aload_n dX5_join_499 0 rfl ?_
          refine m_geta mf_57 rfl dX5_join_500 ?_
          refine j_iload dX5_join_503 3 rfl ?_
          obtain ⟨x4, hx4, hf⟩ := obb hf
          refine m_iald mr_57 hx4 dX5_join_505 ?_
          obtain ⟨u5, hu5, hf⟩ := obb hf
          refine j_cVv [pI v1, pI x4] [] kT_v (bM_mv G) (c5_putClause v1 x4 u hu5) wv5_putClause dv5_putClause rfl ⟨(Nat.le_of_ble_eq_true rfl), (Nat.le_of_ble_eq_true rfl)⟩ (m_recv u) rfl (Nat.le_of_ble_eq_true rfl) dX5_join_506 ⟨Nat.le_refl 0, Nat.le_refl 0⟩ ?_
          refine j_iinc dX5_join_509 3 rfl [(5, pI (v5 + 1)), (0, pR (some G.1)), (1, pI v1), (2, pI v2)] (Nat.le_of_ble_eq_true rfl) rfl ?_
          refine j_goto 350 dX5_join_512 (by decide) ?_
          exact j_sub [1, 2, 3, 0] _ rfl (ih (v5 + 1) u5 hf)
      · replace hf := itb h21 hf
        refine j_aload_n dX5_join_372 0 rfl ?_
        refine m_geta mf_24 rfl dX5_join_373 ?_
        refine j_bipush dX5_join_376 (by decide) ?_
        refine j_iload_n dX5_join_378 1 rfl ?_
        refine j_imul dX5_join_379 ?_
        refine j_aload_n dX5_join_380 0 rfl ?_
        refine m_geta mf_23 rfl dX5_join_381 ?_
        refine j_iload_n dX5_join_384 1 rfl ?_
        obtain ⟨x7, hx7, hf⟩ := obb hf
        refine m_iald mr_23 hx7 dX5_join_385 ?_
        refine j_iadd dX5_join_386 ?_
        refine j_aload_n dX5_join_387 0 rfl ?_
        refine m_geta mf_24 rfl dX5_join_388 ?_
        refine j_bipush dX5_join_391 (by decide) ?_
        refine j_iload_n dX5_join_393 2 rfl ?_
        refine j_imul dX5_join_394 ?_
        refine j_iload dX5_join_395 3 rfl ?_
        refine j_iadd dX5_join_397 ?_
        obtain ⟨x8, hx8, hf⟩ := obb hf
        refine m_iald mr_24 hx8 dX5_join_398 ?_
        obtain ⟨u9, hu9, hf⟩ := obb hf
        refine m_iast mr_24 hu9 dX5_join_399 ?_
        refine j_aload_n dX5_join_400 0 rfl ?_
        refine m_geta mf_25 rfl dX5_join_401 ?_
        refine j_bipush dX5_join_404 (by decide) ?_
        refine j_iload_n dX5_join_406 1 rfl ?_
        refine j_imul dX5_join_407 ?_
        refine j_aload_n dX5_join_408 0 rfl ?_
        refine m_geta mf_23 rfl dX5_join_409 ?_
        refine j_iload_n dX5_join_412 1 rfl ?_
        obtain ⟨x10, hx10, hf⟩ := obb hf
        refine m_iald mr_23 hx10 dX5_join_413 ?_
        refine j_iadd dX5_join_414 ?_
        refine j_aload_n dX5_join_415 0 rfl ?_
        refine m_geta mf_33 rfl dX5_join_416 ?_
        refine j_iload_n dX5_join_419 1 rfl ?_
        obtain ⟨x11, hx11, hf⟩ := obb hf
        refine m_iald mr_33 hx11 dX5_join_420 ?_
        obtain ⟨u12, hu12, hf⟩ := obb hf
        refine m_iast mr_25 hu12 dX5_join_421 ?_
        refine j_aload_n dX5_join_422 0 rfl ?_
        refine j_iload_n dX5_join_423 1 rfl ?_
        refine j_iload_n dX5_join_424 2 rfl ?_
        refine j_aload_n dX5_join_425 0 rfl ?_
        refine m_geta mf_25 rfl dX5_join_426 ?_
        refine j_bipush dX5_join_429 (by decide) ?_
        refine j_iload_n dX5_join_431 2 rfl ?_
        refine j_imul dX5_join_432 ?_
        refine j_iload dX5_join_433 3 rfl ?_
        refine j_iadd dX5_join_435 ?_
        obtain ⟨x13, hx13, hf⟩ := obb hf
        refine m_iald mr_25 hx13 dX5_join_436 ?_
        refine j_aload_n dX5_join_437 0 rfl ?_
        refine m_geta mf_26 rfl dX5_join_438 ?_
        refine j_bipush dX5_join_441 (by decide) ?_
        refine j_iload_n dX5_join_443 2 rfl ?_
        refine j_imul dX5_join_444 ?_
        refine j_iload dX5_join_445 3 rfl ?_
        refine j_iadd dX5_join_447 ?_
        obtain ⟨x14, hx14, hf⟩ := obb hf
        refine m_iald mr_26 hx14 dX5_join_448 ?_
        obtain ⟨u15, hu15, hf⟩ := obb hf
        refine j_cVv [pI v1, pI v2, pI x13, pI x14] [] kT_v (bM_mv G) (c5_copyNodes v1 v2 x13 x14 u12 hu15) wv5_copyNodes dv5_copyNodes rfl ⟨(Nat.le_of_ble_eq_true rfl), (Nat.le_of_ble_eq_true rfl)⟩ (m_recv u12) rfl (Nat.le_of_ble_eq_true rfl) dX5_join_449 ⟨Nat.le_refl 0, Nat.le_refl 0⟩ ?_
        refine j_aload_n dX5_join_452 0 rfl ?_
        refine m_geta mf_26 rfl dX5_join_453 ?_
        refine j_bipush dX5_join_456 (by decide) ?_
        refine j_iload_n dX5_join_458 1 rfl ?_
        refine j_imul dX5_join_459 ?_
        refine j_aload_n dX5_join_460 0 rfl ?_
        refine m_geta mf_23 rfl dX5_join_461 ?_
        refine j_iload_n dX5_join_464 1 rfl ?_
        obtain ⟨x16, hx16, hf⟩ := obb hf
        refine m_iald mr_23 hx16 dX5_join_465 ?_
        refine j_iadd dX5_join_466 ?_
        refine j_aload_n dX5_join_467 0 rfl ?_
        refine m_geta mf_33 rfl dX5_join_468 ?_
        refine j_iload_n dX5_join_471 1 rfl ?_
        obtain ⟨x17, hx17, hf⟩ := obb hf
        refine m_iald mr_33 hx17 dX5_join_472 ?_
        obtain ⟨u18, hu18, hf⟩ := obb hf
        refine m_iast mr_26 hu18 dX5_join_473 ?_
        refine j_aload_n dX5_join_474 0 rfl ?_
        refine m_geta mf_23 rfl dX5_join_475 ?_
        refine j_iload_n dX5_join_478 1 rfl ?_
        refine j_dup2_11 dX5_join_479 rfl rfl ?_
        obtain ⟨x19, hx19, hf⟩ := obb hf
        refine m_iald mr_23 hx19 dX5_join_480 ?_
        refine j_iconst dX5_join_481 ?_
        refine j_iadd dX5_join_482 ?_
        obtain ⟨u20, hu20, hf⟩ := obb hf
        refine m_iast mr_23 hu20 dX5_join_483 ?_
        refine j_goto 509 dX5_join_484 (by decide) ?_
        refine j_iinc dX5_join_509 3 rfl [(5, pI (v5 + 1)), (0, pR (some G.1)), (1, pI v1), (2, pI v2)] (Nat.le_of_ble_eq_true rfl) rfl ?_
        refine j_goto 350 dX5_join_512 (by decide) ?_
        exact j_sub [1, 2, 3, 0] _ rfl (ih (v5 + 1) u20 hf)
theorem c5_join_l518 {G : MG} {l : Launch} {a : List PV} {r : Mu} {Kf : Mu → Option (Mu)} (v1 : Int) (v2 : Int) (hK0 : ∀ q : Mu, Kf q = some r → J5 G l D5_join a none r q 550 [(0, pR (some G.1)), (1, pI v1), (2, pI v2)] []) : ∀ (n : Nat) (v5 : Int) (u : Mu), ((m5_join_l518 v1 v2 n v5 u).bind Kf = some r) → J5 G l D5_join a none r u 518 [(0, pR (some G.1)), (1, pI v1), (2, pI v2), (5, pI v5)] [] := by
  intro n
  induction n with
  | zero => intro v5 u hf; exact onb hf
  | succ n ih =>
    intro v5 u hf
    unfold m5_join_l518 at hf
    refine j_iload dX5_join_518 3 rfl ?_
    refine j_aload_n dX5_join_520 0 rfl ?_
    refine m_geti mf_56 rfl dX5_join_521 ?_
    refine j_icmp_ge (w32 v5) (w32 (u.1 56)) rfl rfl 550 dX5_join_524 (by decide) (fun h4 => ?_) (fun h4 => ?_)
    · replace hf := itb h4 hf
      exact j_sub [0, 1, 2] _ rfl (hK0 u hf)
    · replace hf := ieb h4 hf
      refine j_aload_n dX5_join_527 0 rfl ?_
      refine m_geta mf_58 rfl dX5_join_528 ?_
      refine j_iload dX5_join_531 3 rfl ?_
      obtain ⟨x1, hx1, hf⟩ := obb hf
      refine m_zald mr_58 hx1 dX5_join_533 ?_
      refine j_if_ne (w32 x1) rfl 544 dX5_join_534 (by decide) (fun h3 => ?_) (fun h3 => ?_)
      · replace hf := ieb h3 hf
        refine j_iinc dX5_join_544 3 rfl [(5, pI (v5 + 1)), (0, pR (some G.1)), (1, pI v1), (2, pI v2)] (Nat.le_of_ble_eq_true rfl) rfl ?_
        refine j_goto 518 dX5_join_547 (by decide) ?_
        exact j_sub [1, 2, 3, 0] _ rfl (ih (v5 + 1) u hf)
      · replace hf := itb h3 hf
        refine j_aload_n dX5_join_537 0 rfl ?_
        refine j_iload_n dX5_join_538 1 rfl ?_
        refine j_iload dX5_join_539 3 rfl ?_
        obtain ⟨u2, hu2, hf⟩ := obb hf
        refine j_cVv [pI v1, pI v5] [] kT_v (bM_mv G) (c5_putClause v1 v5 u hu2) wv5_putClause dv5_putClause rfl ⟨(Nat.le_of_ble_eq_true rfl), (Nat.le_of_ble_eq_true rfl)⟩ (m_recv u) rfl (Nat.le_of_ble_eq_true rfl) dX5_join_541 ⟨Nat.le_refl 0, Nat.le_refl 0⟩ ?_
        refine j_iinc dX5_join_544 3 rfl [(5, pI (v5 + 1)), (0, pR (some G.1)), (1, pI v1), (2, pI v2)] (Nat.le_of_ble_eq_true rfl) rfl ?_
        refine j_goto 518 dX5_join_547 (by decide) ?_
        exact j_sub [1, 2, 3, 0] _ rfl (ih (v5 + 1) u2 hf)
theorem c5_join_l553 {G : MG} {l : Launch} {a : List PV} {r : Mu} {Kf : Mu → Option (Mu)} (v1 : Int) (v2 : Int) (hK0 : ∀ q : Mu, Kf q = some r → J5 G l D5_join a none r q 636 [(0, pR (some G.1)), (1, pI v1)] []) : ∀ (n : Nat) (v5 : Int) (u : Mu), ((m5_join_l553 v1 v2 n v5 u).bind Kf = some r) → J5 G l D5_join a none r u 553 [(0, pR (some G.1)), (1, pI v1), (2, pI v2), (5, pI v5)] [] := by
  intro n
  induction n with
  | zero => intro v5 u hf; exact onb hf
  | succ n ih =>
    intro v5 u hf
    unfold m5_join_l553 at hf
    refine j_iload dX5_join_553 3 rfl ?_
    refine j_aload_n dX5_join_555 0 rfl ?_
    refine m_geta mf_27 rfl dX5_join_556 ?_
    refine j_iload_n dX5_join_559 2 rfl ?_
    obtain ⟨x1, hx1, hf⟩ := obb hf
    refine m_iald mr_27 hx1 dX5_join_560 ?_
    refine j_icmp_ge (w32 v5) (w32 x1) rfl rfl 636 dX5_join_561 (by decide) (fun h9 => ?_) (fun h9 => ?_)
    · replace hf := itb h9 hf
      exact j_sub [0, 1] _ rfl (hK0 u hf)
    · replace hf := ieb h9 hf
      refine j_aload_n dX5_join_564 0 rfl ?_
      refine m_geta mf_30 rfl dX5_join_565 ?_
      refine j_bipush dX5_join_568 (by decide) ?_
      refine j_iload_n dX5_join_570 1 rfl ?_
      refine j_imul dX5_join_571 ?_
      refine j_iload dX5_join_572 3 rfl ?_
      refine j_iadd dX5_join_574 ?_
      refine j_aload_n dX5_join_575 0 rfl ?_
      refine m_geta mf_33 rfl dX5_join_576 ?_
      refine j_iload_n dX5_join_579 1 rfl ?_
      obtain ⟨x2, hx2, hf⟩ := obb hf
      refine m_iald mr_33 hx2 dX5_join_580 ?_
      obtain ⟨u3, hu3, hf⟩ := obb hf
      refine m_iast mr_30 hu3 dX5_join_581 ?_
      refine j_aload_n dX5_join_582 0 rfl ?_
      refine j_iload_n dX5_join_583 1 rfl ?_
      refine j_iload_n dX5_join_584 2 rfl ?_
      refine j_aload_n dX5_join_585 0 rfl ?_
      refine m_geta mf_30 rfl dX5_join_586 ?_
      refine j_bipush dX5_join_589 (by decide) ?_
      refine j_iload_n dX5_join_591 2 rfl ?_
      refine j_imul dX5_join_592 ?_
      refine j_iload dX5_join_593 3 rfl ?_
      refine j_iadd dX5_join_595 ?_
      obtain ⟨x4, hx4, hf⟩ := obb hf
      refine m_iald mr_30 hx4 dX5_join_596 ?_
      refine j_aload_n dX5_join_597 0 rfl ?_
      refine m_geta mf_31 rfl dX5_join_598 ?_
      refine j_bipush dX5_join_601 (by decide) ?_
      refine j_iload_n dX5_join_603 2 rfl ?_
      refine j_imul dX5_join_604 ?_
      refine j_iload dX5_join_605 3 rfl ?_
      refine j_iadd dX5_join_607 ?_
      obtain ⟨x5, hx5, hf⟩ := obb hf
      refine m_iald mr_31 hx5 dX5_join_608 ?_
      obtain ⟨u6, hu6, hf⟩ := obb hf
      refine j_cVv [pI v1, pI v2, pI x4, pI x5] [] kT_v (bM_mv G) (c5_copyNodes v1 v2 x4 x5 u3 hu6) wv5_copyNodes dv5_copyNodes rfl ⟨(Nat.le_of_ble_eq_true rfl), (Nat.le_of_ble_eq_true rfl)⟩ (m_recv u3) rfl (Nat.le_of_ble_eq_true rfl) dX5_join_609 ⟨Nat.le_refl 0, Nat.le_refl 0⟩ ?_
      refine j_aload_n dX5_join_612 0 rfl ?_
      refine m_geta mf_31 rfl dX5_join_613 ?_
      refine j_bipush dX5_join_616 (by decide) ?_
      refine j_iload_n dX5_join_618 1 rfl ?_
      refine j_imul dX5_join_619 ?_
      refine j_iload dX5_join_620 3 rfl ?_
      refine j_iadd dX5_join_622 ?_
      refine j_aload_n dX5_join_623 0 rfl ?_
      refine m_geta mf_33 rfl dX5_join_624 ?_
      refine j_iload_n dX5_join_627 1 rfl ?_
      obtain ⟨x7, hx7, hf⟩ := obb hf
      refine m_iald mr_33 hx7 dX5_join_628 ?_
      obtain ⟨u8, hu8, hf⟩ := obb hf
      refine m_iast mr_31 hu8 dX5_join_629 ?_
      refine j_iinc dX5_join_630 3 rfl [(5, pI (v5 + 1)), (0, pR (some G.1)), (1, pI v1), (2, pI v2)] (Nat.le_of_ble_eq_true rfl) rfl ?_
      refine j_goto 553 dX5_join_633 (by decide) ?_
      exact j_sub [1, 2, 3, 0] _ rfl (ih (v5 + 1) u8 hf)
theorem c5_join {G : MG} {l : Launch} {r : Mu} (v1 : Int) (v2 : Int) (u : Mu) (hf : m5_join v1 v2 u = some r) : JM kT (bM G) (aM G) l yX5_join D5_join [pR (some G.1), pI v1, pI v2] u none r 0 0 := by
  refine j_met (lv0 := [(0, pR (some G.1)), (1, pI v1), (2, pI v2)]) ⟨pl_X5, rfl, rfl, (Nat.le_of_ble_eq_true rfl), rfl⟩ ?_
  unfold m5_join at hf
  refine j_iconst dX5_join_0 ?_
  refine j_istore_n dX5_join_1 [(3, pI 0), (0, pR (some G.1)), (1, pI v1), (2, pI v2)] (Nat.le_of_ble_eq_true rfl) rfl ?_
  refine j_aload_n dX5_join_2 1 rfl ?_
  refine m_geti mf_46 rfl dX5_join_3 ?_
  refine j_istore dX5_join_6 [(4, pI (u.1 46)), (3, pI 0), (0, pR (some G.1)), (1, pI v1), (2, pI v2)] (Nat.le_of_ble_eq_true rfl) rfl ?_
  refine j_iconst dX5_join_8 ?_
  refine j_istore dX5_join_9 [(5, pI 0), (4, pI (u.1 46)), (3, pI 0), (0, pR (some G.1)), (1, pI v1), (2, pI v2)] (Nat.le_of_ble_eq_true rfl) rfl ?_
  refine j_sub [3, 4, 5, 2, 1, 0] _ rfl (c5_join_l11 v1 v2 u ?_ NN 0 (u.1 46) 0 hf)
  · intro q1 hf
    refine j_iconst dX5_join_93 ?_
    refine j_istore dX5_join_94 [(5, pI 0), (0, pR (some G.1)), (1, pI v1), (2, pI v2), (3, pI q1.1), (4, pI q1.2)] (Nat.le_of_ble_eq_true rfl) rfl ?_
    refine j_sub [1, 2, 3, 4, 5, 0] _ rfl (c5_join_l96 v1 v2 q1.1 u ?_ NN q1.2 0 hf)
    · intro q2 hf
      refine j_iconst dX5_join_143 ?_
      refine j_istore dX5_join_144 [(5, pI 0), (0, pR (some G.1)), (1, pI v1), (2, pI v2), (3, pI q1.1), (4, pI q2)] (Nat.le_of_ble_eq_true rfl) rfl ?_
      refine j_sub [1, 2, 3, 4, 5, 0] _ rfl (c5_join_l146 v1 v2 q1.1 u ?_ NN q2 0 hf)
      · intro q3 hf
        refine j_iconst dX5_join_193 ?_
        refine j_istore dX5_join_194 [(5, pI 0), (0, pR (some G.1)), (1, pI v1), (2, pI v2), (3, pI q1.1), (4, pI q3)] (Nat.le_of_ble_eq_true rfl) rfl ?_
        refine j_sub [1, 2, 3, 4, 5, 0] _ rfl (c5_join_l196 v1 v2 q3 u ?_ NN q1.1 0 hf)
        · intro q4 hf
          refine j_iload_n dX5_join_229 3 rfl ?_
          refine j_bipush dX5_join_230 (by decide) ?_
          refine j_icmp_gt (w32 q4) 24 rfl rfl 243 dX5_join_232 (by decide) (fun h13 => ?_) (fun h13 => ?_)
          · replace hf := it h13 hf
            exact j_sub [0] _ rfl (c5_join_b243 u hf)
          · replace hf := ie h13 hf
            refine j_iload dX5_join_235 4 rfl ?_
            refine j_sipush dX5_join_237 (by decide) ?_
            refine j_icmp_le (w32 q3) 300 rfl rfl 250 dX5_join_240 (by decide) (fun h12 => ?_) (fun h12 => ?_)
            · replace hf := it h12 hf
              refine j_aload_n dX5_join_250 0 rfl ?_
              refine j_iload_n dX5_join_251 1 rfl ?_
              obtain ⟨u5, hu5, hf⟩ := ob hf
              refine j_cVv [pI v1] [] kT_v (bM_mv G) (c5_clear v1 u hu5) wv5_clear dv5_clear rfl ⟨(Nat.le_of_ble_eq_true rfl), (Nat.le_of_ble_eq_true rfl)⟩ (m_recv u) rfl (Nat.le_of_ble_eq_true rfl) dX5_join_252 ⟨Nat.le_refl 0, Nat.le_refl 0⟩ ?_
              refine j_aload_n dX5_join_255 0 rfl ?_
              refine j_iload_n dX5_join_256 1 rfl ?_
              refine j_iload_n dX5_join_257 2 rfl ?_
              obtain ⟨u6, hu6, hf⟩ := ob hf
              refine j_cVv [pI v1, pI v2] [] kT_v (bM_mv G) (c5_copyWording v1 v2 u5 hu6) wv5_copyWording dv5_copyWording rfl ⟨(Nat.le_of_ble_eq_true rfl), (Nat.le_of_ble_eq_true rfl)⟩ (m_recv u5) rfl (Nat.le_of_ble_eq_true rfl) dX5_join_258 ⟨Nat.le_refl 0, Nat.le_refl 0⟩ ?_
              refine j_iconst dX5_join_261 ?_
              refine j_istore dX5_join_262 [(5, pI 0), (0, pR (some G.1)), (1, pI v1), (2, pI v2), (3, pI q4), (4, pI q3)] (Nat.le_of_ble_eq_true rfl) rfl ?_
              refine j_sub [1, 2, 3, 0] _ rfl (c5_join_l264 v1 v2 ?_ NN 0 u6 hf)
              · intro q7 hf
                refine j_iconst dX5_join_347 ?_
                refine j_istore dX5_join_348 [(5, pI 0), (0, pR (some G.1)), (1, pI v1), (2, pI v2)] (Nat.le_of_ble_eq_true rfl) rfl ?_
                refine j_sub [1, 2, 3, 0] _ rfl (c5_join_l350 v1 v2 ?_ NN 0 q7 hf)
                · intro q8 hf
                  refine j_iconst dX5_join_515 ?_
                  refine j_istore dX5_join_516 [(5, pI 0), (0, pR (some G.1)), (1, pI v1), (2, pI v2)] (Nat.le_of_ble_eq_true rfl) rfl ?_
                  refine j_sub [1, 2, 3, 0] _ rfl (c5_join_l518 v1 v2 ?_ NN 0 q8 hf)
                  · intro q9 hf
                    refine j_iconst dX5_join_550 ?_
                    refine j_istore dX5_join_551 [(5, pI 0), (0, pR (some G.1)), (1, pI v1), (2, pI v2)] (Nat.le_of_ble_eq_true rfl) rfl ?_
                    refine j_sub [1, 2, 3, 0] _ rfl (c5_join_l553 v1 v2 ?_ NN 0 q9 hf)
                    · intro q10 hf
                      refine j_aload_n dX5_join_636 0 rfl ?_
                      refine j_iload_n dX5_join_637 1 rfl ?_
                      obtain ⟨u11, hu11, hf⟩ := ob hf
                      refine j_cVv [pI v1] [] kT_v (bM_mv G) (c5_finish v1 q10 hu11) wv5_finish dv5_finish rfl ⟨(Nat.le_of_ble_eq_true rfl), (Nat.le_of_ble_eq_true rfl)⟩ (m_recv q10) rfl (Nat.le_of_ble_eq_true rfl) dX5_join_638 ⟨Nat.le_refl 0, Nat.le_refl 0⟩ ?_
                      replace hf := Option.some.inj hf
                      subst hf
                      exact j_return (bM_mv G) ⟨Nat.le_refl 0, Nat.le_refl 0⟩ rfl dX5_join_641
            · replace hf := ie h12 hf
              exact j_sub [0] _ rfl (c5_join_b243 u hf)
theorem c5_endorse_l37 {G : MG} {l : Launch} {a : List PV} {r : Int × Mu} {Kf : Mu → Option (Int × Mu)} (v1 : Int) (hK0 : ∀ q : Mu, Kf q = some r → J5 G l D5_endorse a (some (pI r.1)) r.2 q 60 [(0, pR (some G.1)), (1, pI v1)] []) : ∀ (n : Nat) (v2 : Int) (u : Mu), ((m5_endorse_l37 v1 n v2 u).bind Kf = some r) → J5 G l D5_endorse a (some (pI r.1)) r.2 u 37 [(0, pR (some G.1)), (1, pI v1), (2, pI v2)] [] := by
  intro n
  induction n with
  | zero => intro v2 u hf; exact onb hf
  | succ n ih =>
    intro v2 u hf
    unfold m5_endorse_l37 at hf
    refine j_iload_n dX5_endorse_37 2 rfl ?_
    refine j_aload_n dX5_endorse_38 0 rfl ?_
    refine m_geta mf_23 rfl dX5_endorse_39 ?_
    refine j_iload_n dX5_endorse_42 1 rfl ?_
    obtain ⟨x1, hx1, hf⟩ := obb hf
    refine m_iald mr_23 hx1 dX5_endorse_43 ?_
    refine j_icmp_ge (w32 v2) (w32 x1) rfl rfl 60 dX5_endorse_44 (by decide) (fun h3 => ?_) (fun h3 => ?_)
    · replace hf := itb h3 hf
      exact j_sub [0, 1] _ rfl (hK0 u hf)
    · replace hf := ieb h3 hf
      refine j_aload_n dX5_endorse_47 0 rfl ?_
      refine m_geta mf_57 rfl dX5_endorse_48 ?_
      refine j_iload_n dX5_endorse_51 2 rfl ?_
      refine j_iconst dX5_endorse_52 ?_
      obtain ⟨u2, hu2, hf⟩ := obb hf
      refine m_iast mr_57 hu2 dX5_endorse_53 ?_
      refine j_iinc dX5_endorse_54 2 rfl [(2, pI (v2 + 1)), (0, pR (some G.1)), (1, pI v1)] (Nat.le_of_ble_eq_true rfl) rfl ?_
      refine j_goto 37 dX5_endorse_57 (by decide) ?_
      exact j_sub [1, 2, 0] _ rfl (ih (v2 + 1) u2 hf)
theorem c5_endorse_b207 {G : MG} {l : Launch} {a : List PV} {r : Int × Mu} {Kf : (Mu) ⊕ (Mu) → Option (Int × Mu)} {v1 : Int} (kh : Mu → Option ((Mu) ⊕ (Mu))) (hkh : ∀ (zu : Mu), ((kh  zu).bind Kf = some r) → J5 G l D5_endorse a (some (pI r.1)) r.2 zu 62 [(0, pR (some G.1)), (1, pI v1)] []) (hK0 : ∀ q : Mu, Kf (.inl q) = some r → J5 G l D5_endorse a (some (pI r.1)) r.2 q 183 [(0, pR (some G.1)), (1, pI v1)] []) (hK1 : ∀ q : Mu, Kf (.inr q) = some r → J5 G l D5_endorse a (some (pI r.1)) r.2 q 283 [(0, pR (some G.1)), (1, pI v1)] []) (v3 : Int) (s1 : Int) (s2 : Int) (u : Mu) (hf : (m5_endorse_b207 kh v1 v3 s1 s2 u).bind Kf = some r) : J5 G l D5_endorse a (some (pI r.1)) r.2 u 207 [(0, pR (some G.1)), (1, pI v1), (3, pI v3)] [pI s2, pI s1, pR (some (G.2.1 57))] := by
  unfold m5_endorse_b207 at hf
  obtain ⟨u1, hu1, hf⟩ := obb hf
  refine m_iast mr_57 hu1 dX5_endorse_207 ?_
  refine j_iload_n dX5_endorse_208 2 rfl ?_
  refine j_if_eq (w32 v3) rfl 221 dX5_endorse_209 (by decide) (fun h8 => ?_) (fun h8 => ?_)
  · replace hf := itb h8 hf
    refine j_aload_n dX5_endorse_221 0 rfl ?_
    obtain ⟨x2, hx2, hf⟩ := obb hf
    refine j_cVr [] [] kT_v (bM_mv G) (c5_isClause  u1 hx2) wv5_isClause dv5_isClause rfl ⟨(Nat.le_of_ble_eq_true rfl), (Nat.le_of_ble_eq_true rfl)⟩ (m_recv u1) rfl (Nat.le_of_ble_eq_true rfl) dX5_endorse_222 ⟨Nat.le_refl 0, Nat.le_refl 0⟩ ?_
    refine j_if_eq (w32 x2) rfl 245 dX5_endorse_225 (by decide) (fun h6 => ?_) (fun h6 => ?_)
    · replace hf := itb h6 hf
      refine j_aload_n dX5_endorse_245 0 rfl ?_
      obtain ⟨u3, hu3, hf⟩ := obb hf
      refine j_cVv [] [] kT_v (bM_mv G) (c5_cannot  u1 hu3) wv5_cannot dv5_cannot rfl ⟨(Nat.le_of_ble_eq_true rfl), (Nat.le_of_ble_eq_true rfl)⟩ (m_recv u1) rfl (Nat.le_of_ble_eq_true rfl) dX5_endorse_246 ⟨Nat.le_refl 0, Nat.le_refl 0⟩ ?_
      refine j_goto 62 dX5_endorse_249 (by decide) ?_
      exact j_sub [0, 1] _ rfl (hkh u3 hf)
    · replace hf := ieb h6 hf
      refine j_aload_n dX5_endorse_228 0 rfl ?_
      refine m_geta mf_58 rfl dX5_endorse_229 ?_
      refine j_aload_n dX5_endorse_232 0 rfl ?_
      refine m_geti mf_56 rfl dX5_endorse_233 ?_
      refine j_iconst dX5_endorse_236 ?_
      obtain ⟨u4, hu4, hf⟩ := obb hf
      refine m_zast mr_58 hu4 dX5_endorse_237 ?_
      refine j_aload_n dX5_endorse_238 0 rfl ?_
      obtain ⟨u5, hu5, hf⟩ := obb hf
      refine j_cVv [] [] kT_v (bM_mv G) (c5_readClause  u4 hu5) wv5_readClause dv5_readClause rfl ⟨(Nat.le_of_ble_eq_true rfl), (Nat.le_of_ble_eq_true rfl)⟩ (m_recv u4) rfl (Nat.le_of_ble_eq_true rfl) dX5_endorse_239 ⟨Nat.le_refl 0, Nat.le_refl 0⟩ ?_
      refine j_goto 249 dX5_endorse_242 (by decide) ?_
      refine j_goto 62 dX5_endorse_249 (by decide) ?_
      exact j_sub [0, 1] _ rfl (hkh u5 hf)
  · replace hf := ieb h8 hf
    refine j_aload_n dX5_endorse_212 0 rfl ?_
    refine j_bipush dX5_endorse_213 (by decide) ?_
    obtain ⟨u7, hu7, hf⟩ := obb hf
    refine j_cVv [pI 6] [] kT_v (bM_mv G) (c5_wantsSign 6 u1 hu7) wv5_wantsSign dv5_wantsSign rfl ⟨(Nat.le_of_ble_eq_true rfl), (Nat.le_of_ble_eq_true rfl)⟩ (m_recv u1) rfl (Nat.le_of_ble_eq_true rfl) dX5_endorse_215 ⟨Nat.le_refl 0, Nat.le_refl 0⟩ ?_
    refine j_goto 249 dX5_endorse_218 (by decide) ?_
    refine j_goto 62 dX5_endorse_249 (by decide) ?_
    exact j_sub [0, 1] _ rfl (hkh u7 hf)
theorem c5_endorse_b166 {G : MG} {l : Launch} {a : List PV} {r : Int × Mu} {Kf : (Mu) ⊕ (Mu) → Option (Int × Mu)} {v1 : Int} (kh : Mu → Option ((Mu) ⊕ (Mu))) (hkh : ∀ (zu : Mu), ((kh  zu).bind Kf = some r) → J5 G l D5_endorse a (some (pI r.1)) r.2 zu 62 [(0, pR (some G.1)), (1, pI v1)] []) (hK0 : ∀ q : Mu, Kf (.inl q) = some r → J5 G l D5_endorse a (some (pI r.1)) r.2 q 183 [(0, pR (some G.1)), (1, pI v1)] []) (hK1 : ∀ q : Mu, Kf (.inr q) = some r → J5 G l D5_endorse a (some (pI r.1)) r.2 q 283 [(0, pR (some G.1)), (1, pI v1)] []) (v3 : Int) (u : Mu) (hf : (m5_endorse_b166 kh v1 v3 u).bind Kf = some r) : J5 G l D5_endorse a (some (pI r.1)) r.2 u 166 [(0, pR (some G.1)), (1, pI v1), (3, pI v3)] [] := by
  unfold m5_endorse_b166 at hf
  refine j_aload_n dX5_endorse_166 0 rfl ?_
  refine j_iconst dX5_endorse_167 ?_
  refine j_ldcw (z := 999999999) q2274 (by decide) dX5_endorse_168 ?_
  obtain ⟨q1, hq1, hf⟩ := obb hf
  refine j_cVr [pI 0, pI 999999999] [] kT_v (bM_mv G) (c5_wantsNumber 0 999999999 u hq1) wv5_wantsNumber dv5_wantsNumber rfl ⟨(Nat.le_of_ble_eq_true rfl), (Nat.le_of_ble_eq_true rfl)⟩ (m_recv u) rfl (Nat.le_of_ble_eq_true rfl) dX5_endorse_171 ⟨Nat.le_refl 0, Nat.le_refl 0⟩ ?_
  refine j_istore dX5_endorse_174 [(4, pI q1.1), (0, pR (some G.1)), (1, pI v1), (3, pI v3)] (Nat.le_of_ble_eq_true rfl) rfl ?_
  refine j_aload_n dX5_endorse_176 1 rfl ?_
  refine m_geti mf_8 rfl dX5_endorse_177 ?_
  refine j_if_le (w32 (q1.2.1 8)) rfl 186 dX5_endorse_180 (by decide) (fun h3 => ?_) (fun h3 => ?_)
  · replace hf := itb h3 hf
    refine j_aload_n dX5_endorse_186 1 rfl ?_
    refine m_geta mf_57 rfl dX5_endorse_187 ?_
    refine j_iload dX5_endorse_190 0 rfl ?_
    refine j_iconst dX5_endorse_192 ?_
    refine j_isub dX5_endorse_193 ?_
    refine j_iload_n dX5_endorse_194 3 rfl ?_
    refine j_if_eq (w32 v3) rfl 203 dX5_endorse_195 (by decide) (fun h2 => ?_) (fun h2 => ?_)
    · replace hf := itb h2 hf
      refine j_aload_n dX5_endorse_203 1 rfl ?_
      refine m_geti mf_56 rfl dX5_endorse_204 ?_
      exact j_sub [1, 2, 3] _ rfl (c5_endorse_b207 (kh) hkh hK0 hK1 v3 (q1.1 - 1) (q1.2.1 56) q1.2 hf)
    · replace hf := ieb h2 hf
      refine j_bipush dX5_endorse_198 (by decide) ?_
      refine j_goto 207 dX5_endorse_200 (by decide) ?_
      exact j_sub [1, 2, 3] _ rfl (c5_endorse_b207 (kh) hkh hK0 hK1 v3 (q1.1 - 1) (-2) q1.2 hf)
  · replace hf := ieb h3 hf
    exact j_sub [1, 2] _ rfl (hK0 q1.2 hf)
theorem c5_endorse_b161 {G : MG} {l : Launch} {a : List PV} {r : Int × Mu} {Kf : (Mu) ⊕ (Mu) → Option (Int × Mu)} {v1 : Int} (kh : Mu → Option ((Mu) ⊕ (Mu))) (hkh : ∀ (zu : Mu), ((kh  zu).bind Kf = some r) → J5 G l D5_endorse a (some (pI r.1)) r.2 zu 62 [(0, pR (some G.1)), (1, pI v1)] []) (hK0 : ∀ q : Mu, Kf (.inl q) = some r → J5 G l D5_endorse a (some (pI r.1)) r.2 q 183 [(0, pR (some G.1)), (1, pI v1)] []) (hK1 : ∀ q : Mu, Kf (.inr q) = some r → J5 G l D5_endorse a (some (pI r.1)) r.2 q 283 [(0, pR (some G.1)), (1, pI v1)] []) (v3 : Int) (u : Mu) (hf : (m5_endorse_b161 kh v1 v3 u).bind Kf = some r) : J5 G l D5_endorse a (some (pI r.1)) r.2 u 161 [(0, pR (some G.1)), (1, pI v1), (3, pI v3)] [] := by
  unfold m5_endorse_b161 at hf
  refine j_aload_n dX5_endorse_161 0 rfl ?_
  refine j_iconst dX5_endorse_162 ?_
  obtain ⟨u1, hu1, hf⟩ := obb hf
  refine j_cVv [pI 5] [] kT_v (bM_mv G) (c5_wrong 5 u hu1) wv5_wrong dv5_wrong rfl ⟨(Nat.le_of_ble_eq_true rfl), (Nat.le_of_ble_eq_true rfl)⟩ (m_recv u) rfl (Nat.le_of_ble_eq_true rfl) dX5_endorse_163 ⟨Nat.le_refl 0, Nat.le_refl 0⟩ ?_
  exact j_sub [0, 1, 2] _ rfl (c5_endorse_b166 (kh) hkh hK0 hK1 v3 u1 hf)
theorem c5_endorse_b121 {G : MG} {l : Launch} {a : List PV} {r : Int × Mu} {Kf : (Mu) ⊕ (Mu) → Option (Int × Mu)} {v1 : Int} (kh : Mu → Option ((Mu) ⊕ (Mu))) (hkh : ∀ (zu : Mu), ((kh  zu).bind Kf = some r) → J5 G l D5_endorse a (some (pI r.1)) r.2 zu 62 [(0, pR (some G.1)), (1, pI v1)] []) (hK0 : ∀ q : Mu, Kf (.inl q) = some r → J5 G l D5_endorse a (some (pI r.1)) r.2 q 183 [(0, pR (some G.1)), (1, pI v1)] []) (hK1 : ∀ q : Mu, Kf (.inr q) = some r → J5 G l D5_endorse a (some (pI r.1)) r.2 q 283 [(0, pR (some G.1)), (1, pI v1)] []) (v3 : Int) (s0 : Int) (u : Mu) (hf : (m5_endorse_b121 kh v1 v3 s0 u).bind Kf = some r) : J5 G l D5_endorse a (some (pI r.1)) r.2 u 121 [(0, pR (some G.1)), (1, pI v1), (3, pI v3)] [pI s0] := by
  unfold m5_endorse_b121 at hf
  refine j_istore dX5_endorse_121 [(4, pI s0), (0, pR (some G.1)), (1, pI v1), (3, pI v3)] (Nat.le_of_ble_eq_true rfl) rfl ?_
  refine j_aload_n dX5_endorse_123 1 rfl ?_
  refine m_geti mf_4 rfl dX5_endorse_124 ?_
  refine j_iconst dX5_endorse_127 ?_
  refine j_icmp_ne (w32 (u.1 4)) 2 rfl rfl 166 dX5_endorse_128 (by decide) (fun h6 => ?_) (fun h6 => ?_)
  · replace hf := ieb h6 hf
    exact j_sub [1, 2, 3] _ rfl (c5_endorse_b166 (kh) hkh hK0 hK1 v3 u hf)
  · replace hf := itb h6 hf
    refine j_iload dX5_endorse_131 0 rfl ?_
    refine j_iconst dX5_endorse_133 ?_
    refine j_icmp_lt (w32 s0) 1 rfl rfl 161 dX5_endorse_134 (by decide) (fun h5 => ?_) (fun h5 => ?_)
    · replace hf := itb h5 hf
      exact j_sub [1, 2, 3] _ rfl (c5_endorse_b161 (kh) hkh hK0 hK1 v3 u hf)
    · replace hf := ieb h5 hf
      refine j_iload dX5_endorse_137 0 rfl ?_
      refine j_aload_n dX5_endorse_139 1 rfl ?_
      refine m_geta mf_23 rfl dX5_endorse_140 ?_
      refine j_iload_n dX5_endorse_143 2 rfl ?_
      obtain ⟨x1, hx1, hf⟩ := obb hf
      refine m_iald mr_23 hx1 dX5_endorse_144 ?_
      refine j_icmp_gt (w32 s0) (w32 x1) rfl rfl 161 dX5_endorse_145 (by decide) (fun h4 => ?_) (fun h4 => ?_)
      · replace hf := itb h4 hf
        exact j_sub [1, 2, 3] _ rfl (c5_endorse_b161 (kh) hkh hK0 hK1 v3 u hf)
      · replace hf := ieb h4 hf
        refine j_aload_n dX5_endorse_148 1 rfl ?_
        refine m_geta mf_57 rfl dX5_endorse_149 ?_
        refine j_iload dX5_endorse_152 0 rfl ?_
        refine j_iconst dX5_endorse_154 ?_
        refine j_isub dX5_endorse_155 ?_
        obtain ⟨x2, hx2, hf⟩ := obb hf
        refine m_iald mr_57 hx2 dX5_endorse_156 ?_
        refine j_iconst dX5_endorse_157 ?_
        refine j_icmp_eq (w32 x2) (-1) rfl rfl 166 dX5_endorse_158 (by decide) (fun h3 => ?_) (fun h3 => ?_)
        · replace hf := itb h3 hf
          exact j_sub [1, 2, 3] _ rfl (c5_endorse_b166 (kh) hkh hK0 hK1 v3 u hf)
        · replace hf := ieb h3 hf
          exact j_sub [1, 2, 3] _ rfl (c5_endorse_b161 (kh) hkh hK0 hK1 v3 u hf)
theorem c5_endorse_b94 {G : MG} {l : Launch} {a : List PV} {r : Int × Mu} {Kf : (Mu) ⊕ (Mu) → Option (Int × Mu)} {v1 : Int} (kh : Mu → Option ((Mu) ⊕ (Mu))) (hkh : ∀ (zu : Mu), ((kh  zu).bind Kf = some r) → J5 G l D5_endorse a (some (pI r.1)) r.2 zu 62 [(0, pR (some G.1)), (1, pI v1)] []) (hK0 : ∀ q : Mu, Kf (.inl q) = some r → J5 G l D5_endorse a (some (pI r.1)) r.2 q 183 [(0, pR (some G.1)), (1, pI v1)] []) (hK1 : ∀ q : Mu, Kf (.inr q) = some r → J5 G l D5_endorse a (some (pI r.1)) r.2 q 283 [(0, pR (some G.1)), (1, pI v1)] []) (u : Mu) (hf : (m5_endorse_b94 kh v1 u).bind Kf = some r) : J5 G l D5_endorse a (some (pI r.1)) r.2 u 94 [(0, pR (some G.1)), (1, pI v1)] [] := by
  unfold m5_endorse_b94 at hf
  refine j_aload_n dX5_endorse_94 0 rfl ?_
  refine j_bipush dX5_endorse_95 (by decide) ?_
  obtain ⟨x1, hx1, hf⟩ := obb hf
  refine j_cVr [pI 24] [] kT_v (bM_mv G) (c5_isWord 24 u hx1) wv5_isWord dv5_isWord rfl ⟨(Nat.le_of_ble_eq_true rfl), (Nat.le_of_ble_eq_true rfl)⟩ (m_recv u) rfl (Nat.le_of_ble_eq_true rfl) dX5_endorse_97 ⟨Nat.le_refl 0, Nat.le_refl 0⟩ ?_
  refine j_istore_n dX5_endorse_100 [(3, pI x1), (0, pR (some G.1)), (1, pI v1)] (Nat.le_of_ble_eq_true rfl) rfl ?_
  refine j_aload_n dX5_endorse_101 1 rfl ?_
  obtain ⟨u2, hu2, hf⟩ := obb hf
  refine j_cVv [] [] kT_v (bM_mv G) (c5_next  u hu2) wv5_next dv5_next rfl ⟨(Nat.le_of_ble_eq_true rfl), (Nat.le_of_ble_eq_true rfl)⟩ (m_recv u) rfl (Nat.le_of_ble_eq_true rfl) dX5_endorse_102 ⟨Nat.le_refl 0, Nat.le_refl 0⟩ ?_
  refine j_aload_n dX5_endorse_105 1 rfl ?_
  refine m_geti mf_4 rfl dX5_endorse_106 ?_
  refine j_iconst dX5_endorse_109 ?_
  refine j_icmp_ne (w32 (u2.1 4)) 2 rfl rfl 120 dX5_endorse_110 (by decide) (fun h3 => ?_) (fun h3 => ?_)
  · replace hf := ieb h3 hf
    refine j_iconst dX5_endorse_120 ?_
    exact j_sub [1, 2, 0] _ rfl (c5_endorse_b121 (kh) hkh hK0 hK1 x1 0 u2 hf)
  · replace hf := itb h3 hf
    refine j_aload_n dX5_endorse_113 1 rfl ?_
    refine m_geti mf_7 rfl dX5_endorse_114 ?_
    refine j_goto 121 dX5_endorse_117 (by decide) ?_
    exact j_sub [1, 2, 0] _ rfl (c5_endorse_b121 (kh) hkh hK0 hK1 x1 (u2.1 7) u2 hf)
theorem c5_endorse_l62 {G : MG} {l : Launch} {a : List PV} {r : Int × Mu} {Kf : (Mu) ⊕ (Mu) → Option (Int × Mu)} (v1 : Int) (hK0 : ∀ q : Mu, Kf (.inl q) = some r → J5 G l D5_endorse a (some (pI r.1)) r.2 q 183 [(0, pR (some G.1)), (1, pI v1)] []) (hK1 : ∀ q : Mu, Kf (.inr q) = some r → J5 G l D5_endorse a (some (pI r.1)) r.2 q 283 [(0, pR (some G.1)), (1, pI v1)] []) : ∀ (n : Nat) (u : Mu), ((m5_endorse_l62 v1 n u).bind Kf = some r) → J5 G l D5_endorse a (some (pI r.1)) r.2 u 62 [(0, pR (some G.1)), (1, pI v1)] [] := by
  intro n
  induction n with
  | zero => intro u hf; exact onb hf
  | succ n ih =>
    intro u hf
    unfold m5_endorse_l62 at hf
    refine j_aload_n dX5_endorse_62 0 rfl ?_
    refine m_geti mf_4 rfl dX5_endorse_63 ?_
    refine j_if_eq (w32 (u.1 4)) rfl 283 dX5_endorse_66 (by decide) (fun h11 => ?_) (fun h11 => ?_)
    · replace hf := itb h11 hf
      exact j_sub [0, 1] _ rfl (hK1 u hf)
    · replace hf := ieb h11 hf
      refine j_aload_n dX5_endorse_69 0 rfl ?_
      refine m_geti mf_8 rfl dX5_endorse_70 ?_
      refine j_if_ne (w32 (u.1 8)) rfl 283 dX5_endorse_73 (by decide) (fun h10 => ?_) (fun h10 => ?_)
      · replace hf := ieb h10 hf
        exact j_sub [0, 1] _ rfl (hK1 u hf)
      · replace hf := itb h10 hf
        refine j_aload_n dX5_endorse_76 0 rfl ?_
        refine j_bipush dX5_endorse_77 (by decide) ?_
        obtain ⟨x1, hx1, hf⟩ := obb hf
        refine j_cVr [pI 24] [] kT_v (bM_mv G) (c5_isWord 24 u hx1) wv5_isWord dv5_isWord rfl ⟨(Nat.le_of_ble_eq_true rfl), (Nat.le_of_ble_eq_true rfl)⟩ (m_recv u) rfl (Nat.le_of_ble_eq_true rfl) dX5_endorse_79 ⟨Nat.le_refl 0, Nat.le_refl 0⟩ ?_
        refine j_if_ne (w32 x1) rfl 94 dX5_endorse_82 (by decide) (fun h9 => ?_) (fun h9 => ?_)
        · replace hf := ieb h9 hf
          exact j_sub [0, 1] _ rfl (c5_endorse_b94 (m5_endorse_l62 v1 n) ih hK0 hK1 u hf)
        · replace hf := itb h9 hf
          refine j_aload_n dX5_endorse_85 0 rfl ?_
          refine j_bipush dX5_endorse_86 (by decide) ?_
          obtain ⟨x2, hx2, hf⟩ := obb hf
          refine j_cVr [pI 25] [] kT_v (bM_mv G) (c5_isWord 25 u hx2) wv5_isWord dv5_isWord rfl ⟨(Nat.le_of_ble_eq_true rfl), (Nat.le_of_ble_eq_true rfl)⟩ (m_recv u) rfl (Nat.le_of_ble_eq_true rfl) dX5_endorse_88 ⟨Nat.le_refl 0, Nat.le_refl 0⟩ ?_
          refine j_if_eq (w32 x2) rfl 252 dX5_endorse_91 (by decide) (fun h8 => ?_) (fun h8 => ?_)
          · replace hf := itb h8 hf
            refine j_aload_n dX5_endorse_252 0 rfl ?_
            obtain ⟨x3, hx3, hf⟩ := obb hf
            refine j_cVr [] [] kT_v (bM_mv G) (c5_isClause  u hx3) wv5_isClause dv5_isClause rfl ⟨(Nat.le_of_ble_eq_true rfl), (Nat.le_of_ble_eq_true rfl)⟩ (m_recv u) rfl (Nat.le_of_ble_eq_true rfl) dX5_endorse_253 ⟨Nat.le_refl 0, Nat.le_refl 0⟩ ?_
            refine j_if_eq (w32 x3) rfl 276 dX5_endorse_256 (by decide) (fun h7 => ?_) (fun h7 => ?_)
            · replace hf := itb h7 hf
              refine j_aload_n dX5_endorse_276 0 rfl ?_
              obtain ⟨u4, hu4, hf⟩ := obb hf
              refine j_cVv [] [] kT_v (bM_mv G) (c5_cannot  u hu4) wv5_cannot dv5_cannot rfl ⟨(Nat.le_of_ble_eq_true rfl), (Nat.le_of_ble_eq_true rfl)⟩ (m_recv u) rfl (Nat.le_of_ble_eq_true rfl) dX5_endorse_277 ⟨Nat.le_refl 0, Nat.le_refl 0⟩ ?_
              refine j_goto 62 dX5_endorse_280 (by decide) ?_
              exact j_sub [0, 1] _ rfl (ih u4 hf)
            · replace hf := ieb h7 hf
              refine j_aload_n dX5_endorse_259 0 rfl ?_
              refine m_geta mf_58 rfl dX5_endorse_260 ?_
              refine j_aload_n dX5_endorse_263 0 rfl ?_
              refine m_geti mf_56 rfl dX5_endorse_264 ?_
              refine j_iconst dX5_endorse_267 ?_
              obtain ⟨u5, hu5, hf⟩ := obb hf
              refine m_zast mr_58 hu5 dX5_endorse_268 ?_
              refine j_aload_n dX5_endorse_269 0 rfl ?_
              obtain ⟨u6, hu6, hf⟩ := obb hf
              refine j_cVv [] [] kT_v (bM_mv G) (c5_readClause  u5 hu6) wv5_readClause dv5_readClause rfl ⟨(Nat.le_of_ble_eq_true rfl), (Nat.le_of_ble_eq_true rfl)⟩ (m_recv u5) rfl (Nat.le_of_ble_eq_true rfl) dX5_endorse_270 ⟨Nat.le_refl 0, Nat.le_refl 0⟩ ?_
              refine j_goto 62 dX5_endorse_273 (by decide) ?_
              exact j_sub [0, 1] _ rfl (ih u6 hf)
          · replace hf := ieb h8 hf
            exact j_sub [0, 1] _ rfl (c5_endorse_b94 (m5_endorse_l62 v1 n) ih hK0 hK1 u hf)
theorem c5_endorse_b324 {G : MG} {l : Launch} {a : List PV} {r : Int × Mu} (v3 : Int) (v4 : Int) (u : Mu) (hf : m5_endorse_b324 v3 v4 u = some r) : J5 G l D5_endorse a (some (pI r.1)) r.2 u 324 [(3, pI v3), (4, pI v4)] [] := by
  unfold m5_endorse_b324 at hf
  refine j_iload dX5_endorse_324 1 rfl ?_
  refine j_if_ge (w32 v4) rfl 334 dX5_endorse_326 (by decide) (fun h1 => ?_) (fun h1 => ?_)
  · replace hf := it h1 hf
    refine j_iload_n dX5_endorse_334 0 rfl ?_
    replace hf := Option.some.inj hf
    subst hf
    exact j_ireturn (bM_mv G) ⟨Nat.le_refl 0, Nat.le_refl 0⟩ rfl dX5_endorse_335
  · replace hf := ie h1 hf
    refine j_iload dX5_endorse_329 1 rfl ?_
    refine j_goto 335 dX5_endorse_331 (by decide) ?_
    replace hf := Option.some.inj hf
    subst hf
    exact j_ireturn (bM_mv G) ⟨Nat.le_refl 0, Nat.le_refl 0⟩ rfl dX5_endorse_335
theorem c5_endorse_b303 {G : MG} {l : Launch} {a : List PV} {r : Int × Mu} (v3 : Int) (u : Mu) (hf : m5_endorse_b303 v3 u = some r) : J5 G l D5_endorse a (some (pI r.1)) r.2 u 303 [(0, pR (some G.1)), (3, pI v3)] [] := by
  unfold m5_endorse_b303 at hf
  refine j_aload_n dX5_endorse_303 0 rfl ?_
  obtain ⟨q1, hq1, hf⟩ := ob hf
  refine j_cVr [] [] kT_v (bM_mv G) (c5_ended  u hq1) wv5_ended dv5_ended rfl ⟨(Nat.le_of_ble_eq_true rfl), (Nat.le_of_ble_eq_true rfl)⟩ (m_recv u) rfl (Nat.le_of_ble_eq_true rfl) dX5_endorse_304 ⟨Nat.le_refl 0, Nat.le_refl 0⟩ ?_
  refine j_istore dX5_endorse_307 [(4, pI q1.1), (0, pR (some G.1)), (3, pI v3)] (Nat.le_of_ble_eq_true rfl) rfl ?_
  refine j_iload dX5_endorse_309 0 rfl ?_
  refine j_if_ne (w32 q1.1) rfl 324 dX5_endorse_311 (by decide) (fun h3 => ?_) (fun h3 => ?_)
  · replace hf := ie h3 hf
    exact j_sub [2, 0] _ rfl (c5_endorse_b324 v3 q1.1 q1.2 hf)
  · replace hf := it h3 hf
    refine j_aload_n dX5_endorse_314 1 rfl ?_
    refine j_dup dX5_endorse_315 rfl ?_
    refine m_geti mf_11 rfl dX5_endorse_316 ?_
    refine j_iconst dX5_endorse_319 ?_
    refine j_iadd dX5_endorse_320 ?_
    obtain ⟨u2, hu2, hf⟩ := ob hf
    refine m_puti_ hu2 mf_11 mfw_11 rfl dX5_endorse_321 ?_
    exact j_sub [2, 0] _ rfl (c5_endorse_b324 v3 q1.1 u2 hf)
theorem c5_endorse_b283 {G : MG} {l : Launch} {a : List PV} {r : Int × Mu} (v1 : Int) (u : Mu) (hf : m5_endorse_b283 v1 u = some r) : J5 G l D5_endorse a (some (pI r.1)) r.2 u 283 [(0, pR (some G.1)), (1, pI v1)] [] := by
  unfold m5_endorse_b283 at hf
  refine j_aload_n dX5_endorse_283 0 rfl ?_
  refine m_geti mf_11 rfl dX5_endorse_284 ?_
  refine j_iconst dX5_endorse_287 ?_
  refine j_iadd dX5_endorse_288 ?_
  refine j_istore_n dX5_endorse_289 [(3, pI ((u.1 11) + 1)), (0, pR (some G.1)), (1, pI v1)] (Nat.le_of_ble_eq_true rfl) rfl ?_
  refine j_aload_n dX5_endorse_290 1 rfl ?_
  refine m_geti mf_8 rfl dX5_endorse_291 ?_
  refine j_if_ne (w32 (u.1 8)) rfl 303 dX5_endorse_294 (by decide) (fun h2 => ?_) (fun h2 => ?_)
  · replace hf := ie h2 hf
    exact j_sub [1, 0] _ rfl (c5_endorse_b303 ((u.1 11) + 1) u hf)
  · replace hf := it h2 hf
    refine j_aload_n dX5_endorse_297 1 rfl ?_
    refine j_iload_n dX5_endorse_298 0 rfl ?_
    refine j_iload_n dX5_endorse_299 2 rfl ?_
    obtain ⟨u1, hu1, hf⟩ := ob hf
    refine j_cVv [pI ((u.1 11) + 1), pI v1] [] kT_v (bM_mv G) (c5_join ((u.1 11) + 1) v1 u hu1) wv5_join dv5_join rfl ⟨(Nat.le_of_ble_eq_true rfl), (Nat.le_of_ble_eq_true rfl)⟩ (m_recv u) rfl (Nat.le_of_ble_eq_true rfl) dX5_endorse_300 ⟨Nat.le_refl 0, Nat.le_refl 0⟩ ?_
    exact j_sub [1, 0] _ rfl (c5_endorse_b303 ((u.1 11) + 1) u1 hf)
theorem c5_endorse {G : MG} {l : Launch} {r : Int × Mu} (v1 : Int) (u : Mu) (hf : m5_endorse v1 u = some r) : JM kT (bM G) (aM G) l yX5_endorse D5_endorse [pR (some G.1), pI v1] u (some (pI r.1)) r.2 0 0 := by
  refine j_met (lv0 := [(0, pR (some G.1)), (1, pI v1)]) ⟨pl_X5, rfl, rfl, (Nat.le_of_ble_eq_true rfl), rfl⟩ ?_
  unfold m5_endorse at hf
  refine j_iload_n dX5_endorse_0 1 rfl ?_
  refine j_iconst dX5_endorse_1 ?_
  refine j_icmp_lt (w32 v1) 1 rfl rfl 13 dX5_endorse_2 (by decide) (fun h7 => ?_) (fun h7 => ?_)
  · replace hf := it h7 hf
    refine j_iconst dX5_endorse_13 ?_
    replace hf := Option.some.inj hf
    subst hf
    exact j_ireturn (bM_mv G) ⟨Nat.le_refl 0, Nat.le_refl 0⟩ rfl dX5_endorse_14
  · replace hf := ie h7 hf
    refine j_iload_n dX5_endorse_5 1 rfl ?_
    refine j_aload_n dX5_endorse_6 0 rfl ?_
    refine m_geti mf_11 rfl dX5_endorse_7 ?_
    refine j_icmp_le (w32 v1) (w32 (u.1 11)) rfl rfl 15 dX5_endorse_10 (by decide) (fun h6 => ?_) (fun h6 => ?_)
    · replace hf := it h6 hf
      refine j_aload_n dX5_endorse_15 0 rfl ?_
      refine m_geti mf_11 rfl dX5_endorse_16 ?_
      refine j_bipush dX5_endorse_19 (by decide) ?_
      refine j_icmp_ne (w32 (u.1 11)) 12 rfl rfl 27 dX5_endorse_21 (by decide) (fun h5 => ?_) (fun h5 => ?_)
      · replace hf := ie h5 hf
        refine j_aload_n dX5_endorse_27 0 rfl ?_
        refine j_iload_n dX5_endorse_28 1 rfl ?_
        refine j_sipush dX5_endorse_29 (by decide) ?_
        obtain ⟨u1, hu1, hf⟩ := ob hf
        refine j_cVv [pI v1, pI 5000] [] kT_v (bM_mv G) (c5_beginText v1 5000 u hu1) wv5_beginText dv5_beginText rfl ⟨(Nat.le_of_ble_eq_true rfl), (Nat.le_of_ble_eq_true rfl)⟩ (m_recv u) rfl (Nat.le_of_ble_eq_true rfl) dX5_endorse_32 ⟨Nat.le_refl 0, Nat.le_refl 0⟩ ?_
        refine j_iconst dX5_endorse_35 ?_
        refine j_istore_n dX5_endorse_36 [(2, pI 0), (0, pR (some G.1)), (1, pI v1)] (Nat.le_of_ble_eq_true rfl) rfl ?_
        refine j_sub [1, 2, 0] _ rfl (c5_endorse_l37 v1 ?_ NN 0 u1 hf)
        · intro q2 hf
          refine j_iconst dX5_endorse_60 ?_
          refine j_istore_n dX5_endorse_61 [(2, pI 0), (0, pR (some G.1)), (1, pI v1)] (Nat.le_of_ble_eq_true rfl) rfl ?_
          refine j_sub [1, 2] _ rfl (c5_endorse_l62 v1 ?_ ?_ NN q2 hf)
          · intro q3 hf
            simp only [Sum.elim_inl, Sum.elim_inr] at hf
            refine j_goto 283 dX5_endorse_183 (by decide) ?_
            exact j_sub [0, 1] _ rfl (c5_endorse_b283 v1 q3 hf)
          · intro q4 hf
            simp only [Sum.elim_inl, Sum.elim_inr] at hf
            exact j_sub [0, 1] _ rfl (c5_endorse_b283 v1 q4 hf)
      · replace hf := it h5 hf
        refine j_bipush dX5_endorse_24 (by decide) ?_
        replace hf := Option.some.inj hf
        subst hf
        exact j_ireturn (bM_mv G) ⟨Nat.le_refl 0, Nat.le_refl 0⟩ rfl dX5_endorse_26
    · replace hf := ie h6 hf
      refine j_iconst dX5_endorse_13 ?_
      replace hf := Option.some.inj hf
      subst hf
      exact j_ireturn (bM_mv G) ⟨Nat.le_refl 0, Nat.le_refl 0⟩ rfl dX5_endorse_14
theorem c5_isWording {G : MG} {l : Launch} {r : Int} (v1 : Int) (u : Mu) (hf : m5_isWording v1 u = some r) : JM kT (bM G) (aM G) l yX5_isWording D5_isWording [pR (some G.1), pI v1] u (some (pI r)) u 0 0 := by
  refine j_met (lv0 := [(0, pR (some G.1)), (1, pI v1)]) ⟨pl_X5, rfl, rfl, (Nat.le_of_ble_eq_true rfl), rfl⟩ ?_
  unfold m5_isWording at hf
  refine j_iload_n dX5_isWording_0 1 rfl ?_
  refine j_iconst dX5_isWording_1 ?_
  refine j_icmp_lt (w32 v1) 1 rfl rfl 17 dX5_isWording_2 (by decide) (fun h2 => ?_) (fun h2 => ?_)
  · replace hf := it h2 hf
    refine j_iconst dX5_isWording_17 ?_
    replace hf := Option.some.inj hf
    subst hf
    exact j_zreturn (x := 0) (bM_mv G) ⟨Nat.le_refl 0, Nat.le_refl 0⟩ (ty := .boolean) rfl (nar_z (Or.inl rfl)) dX5_isWording_18
  · replace hf := ie h2 hf
    refine j_iload_n dX5_isWording_5 1 rfl ?_
    refine j_aload_n dX5_isWording_6 0 rfl ?_
    refine m_geti mf_11 rfl dX5_isWording_7 ?_
    refine j_icmp_gt (w32 v1) (w32 (u.1 11)) rfl rfl 17 dX5_isWording_10 (by decide) (fun h1 => ?_) (fun h1 => ?_)
    · replace hf := it h1 hf
      refine j_iconst dX5_isWording_17 ?_
      replace hf := Option.some.inj hf
      subst hf
      exact j_zreturn (x := 0) (bM_mv G) ⟨Nat.le_refl 0, Nat.le_refl 0⟩ (ty := .boolean) rfl (nar_z (Or.inl rfl)) dX5_isWording_18
    · replace hf := ie h1 hf
      refine j_iconst dX5_isWording_13 ?_
      refine j_goto 18 dX5_isWording_14 (by decide) ?_
      replace hf := Option.some.inj hf
      subst hf
      exact j_zreturn (x := 1) (bM_mv G) ⟨Nat.le_refl 0, Nat.le_refl 0⟩ (ty := .boolean) rfl (nar_z (Or.inr rfl)) dX5_isWording_18
theorem c5_wordingPart {G : MG} {l : Launch} {r : Int} (v1 : Int) (v2 : Int) (u : Mu) (hf : m5_wordingPart v1 v2 u = some r) : JM kT (bM G) (aM G) l yX5_wordingPart D5_wordingPart [pR (some G.1), pI v1, pI v2] u (some (pI r)) u 0 0 := by
  refine j_met (lv0 := [(0, pR (some G.1)), (1, pI v1), (2, pI v2)]) ⟨pl_X5, rfl, rfl, (Nat.le_of_ble_eq_true rfl), rfl⟩ ?_
  unfold m5_wordingPart at hf
  refine j_aload_n dX5_wordingPart_0 0 rfl ?_
  refine j_iload_n dX5_wordingPart_1 1 rfl ?_
  obtain ⟨x1, hx1, hf⟩ := ob hf
  refine j_cVr [pI v1] [] kT_v (bM_mv G) (c5_isWording v1 u hx1) wv5_isWording dv5_isWording rfl ⟨(Nat.le_of_ble_eq_true rfl), (Nat.le_of_ble_eq_true rfl)⟩ (m_recv u) rfl (Nat.le_of_ble_eq_true rfl) dX5_wordingPart_2 ⟨Nat.le_refl 0, Nat.le_refl 0⟩ ?_
  refine j_if_ne (w32 x1) rfl 10 dX5_wordingPart_5 (by decide) (fun h15 => ?_) (fun h15 => ?_)
  · replace hf := ie h15 hf
    refine j_iload_n dX5_wordingPart_10 2 rfl ?_
    rcases Decidable.em ((w32 v2) = 0) with h2 | h2
    · replace hf := it h2 hf
      refine j_tabIn (z := 0) 44 dX5_wordingPart_11 h2 ⟨⟨by decide, by decide⟩, rfl⟩ (by decide) ?_
      refine j_aload_n dX5_wordingPart_44 0 rfl ?_
      refine m_geta mf_12 rfl dX5_wordingPart_45 ?_
      refine j_iload_n dX5_wordingPart_48 1 rfl ?_
      obtain ⟨x3, hx3, hf⟩ := ob hf
      refine m_iald mr_12 hx3 dX5_wordingPart_49 ?_
      replace hf := Option.some.inj hf
      subst hf
      exact j_ireturn (bM_mv G) ⟨Nat.le_refl 0, Nat.le_refl 0⟩ rfl dX5_wordingPart_50
    replace hf := ie h2 hf
    rcases Decidable.em ((w32 v2) = 1) with h4 | h4
    · replace hf := it h4 hf
      refine j_tabIn (z := 1) 51 dX5_wordingPart_11 h4 ⟨⟨by decide, by decide⟩, rfl⟩ (by decide) ?_
      refine j_aload_n dX5_wordingPart_51 0 rfl ?_
      refine m_geta mf_23 rfl dX5_wordingPart_52 ?_
      refine j_iload_n dX5_wordingPart_55 1 rfl ?_
      obtain ⟨x5, hx5, hf⟩ := ob hf
      refine m_iald mr_23 hx5 dX5_wordingPart_56 ?_
      replace hf := Option.some.inj hf
      subst hf
      exact j_ireturn (bM_mv G) ⟨Nat.le_refl 0, Nat.le_refl 0⟩ rfl dX5_wordingPart_57
    replace hf := ie h4 hf
    rcases Decidable.em ((w32 v2) = 2) with h6 | h6
    · replace hf := it h6 hf
      refine j_tabIn (z := 2) 58 dX5_wordingPart_11 h6 ⟨⟨by decide, by decide⟩, rfl⟩ (by decide) ?_
      refine j_aload_n dX5_wordingPart_58 0 rfl ?_
      refine m_geta mf_27 rfl dX5_wordingPart_59 ?_
      refine j_iload_n dX5_wordingPart_62 1 rfl ?_
      obtain ⟨x7, hx7, hf⟩ := ob hf
      refine m_iald mr_27 hx7 dX5_wordingPart_63 ?_
      replace hf := Option.some.inj hf
      subst hf
      exact j_ireturn (bM_mv G) ⟨Nat.le_refl 0, Nat.le_refl 0⟩ rfl dX5_wordingPart_64
    replace hf := ie h6 hf
    rcases Decidable.em ((w32 v2) = 3) with h8 | h8
    · replace hf := it h8 hf
      refine j_tabIn (z := 3) 65 dX5_wordingPart_11 h8 ⟨⟨by decide, by decide⟩, rfl⟩ (by decide) ?_
      refine j_aload_n dX5_wordingPart_65 0 rfl ?_
      refine m_geta mf_40 rfl dX5_wordingPart_66 ?_
      refine j_iload_n dX5_wordingPart_69 1 rfl ?_
      obtain ⟨x9, hx9, hf⟩ := ob hf
      refine m_iald mr_40 hx9 dX5_wordingPart_70 ?_
      replace hf := Option.some.inj hf
      subst hf
      exact j_ireturn (bM_mv G) ⟨Nat.le_refl 0, Nat.le_refl 0⟩ rfl dX5_wordingPart_71
    replace hf := ie h8 hf
    rcases Decidable.em ((w32 v2) = 4) with h10 | h10
    · replace hf := it h10 hf
      refine j_tabIn (z := 4) 72 dX5_wordingPart_11 h10 ⟨⟨by decide, by decide⟩, rfl⟩ (by decide) ?_
      refine j_aload_n dX5_wordingPart_72 0 rfl ?_
      refine m_geta mf_33 rfl dX5_wordingPart_73 ?_
      refine j_iload_n dX5_wordingPart_76 1 rfl ?_
      obtain ⟨x11, hx11, hf⟩ := ob hf
      refine m_iald mr_33 hx11 dX5_wordingPart_77 ?_
      replace hf := Option.some.inj hf
      subst hf
      exact j_ireturn (bM_mv G) ⟨Nat.le_refl 0, Nat.le_refl 0⟩ rfl dX5_wordingPart_78
    replace hf := ie h10 hf
    refine j_tabOut 79 dX5_wordingPart_11 (by omega) (by decide) ?_
    refine j_iload_n dX5_wordingPart_79 2 rfl ?_
    refine j_iconst dX5_wordingPart_80 ?_
    refine j_icmp_lt (w32 v2) 5 rfl rfl 105 dX5_wordingPart_81 (by decide) (fun h14 => ?_) (fun h14 => ?_)
    · replace hf := it h14 hf
      refine j_bipush dX5_wordingPart_105 (by decide) ?_
      replace hf := Option.some.inj hf
      subst hf
      exact j_ireturn (bM_mv G) ⟨Nat.le_refl 0, Nat.le_refl 0⟩ rfl dX5_wordingPart_107
    · replace hf := ie h14 hf
      refine j_iload_n dX5_wordingPart_84 2 rfl ?_
      refine j_bipush dX5_wordingPart_85 (by decide) ?_
      refine j_icmp_gt (w32 v2) 9 rfl rfl 105 dX5_wordingPart_87 (by decide) (fun h13 => ?_) (fun h13 => ?_)
      · replace hf := it h13 hf
        refine j_bipush dX5_wordingPart_105 (by decide) ?_
        replace hf := Option.some.inj hf
        subst hf
        exact j_ireturn (bM_mv G) ⟨Nat.le_refl 0, Nat.le_refl 0⟩ rfl dX5_wordingPart_107
      · replace hf := ie h13 hf
        refine j_aload_n dX5_wordingPart_90 0 rfl ?_
        refine m_geta mf_32 rfl dX5_wordingPart_91 ?_
        refine j_iconst dX5_wordingPart_94 ?_
        refine j_iload_n dX5_wordingPart_95 1 rfl ?_
        refine j_imul dX5_wordingPart_96 ?_
        refine j_iload_n dX5_wordingPart_97 2 rfl ?_
        refine j_iadd dX5_wordingPart_98 ?_
        refine j_iconst dX5_wordingPart_99 ?_
        refine j_isub dX5_wordingPart_100 ?_
        obtain ⟨x12, hx12, hf⟩ := ob hf
        refine m_iald mr_32 hx12 dX5_wordingPart_101 ?_
        refine j_goto 107 dX5_wordingPart_102 (by decide) ?_
        replace hf := Option.some.inj hf
        subst hf
        exact j_ireturn (bM_mv G) ⟨Nat.le_refl 0, Nat.le_refl 0⟩ rfl dX5_wordingPart_107
  · replace hf := it h15 hf
    refine j_iconst dX5_wordingPart_8 ?_
    replace hf := Option.some.inj hf
    subst hf
    exact j_ireturn (bM_mv G) ⟨Nat.le_refl 0, Nat.le_refl 0⟩ rfl dX5_wordingPart_9
theorem c5_factPart {G : MG} {l : Launch} {r : Int} (v1 : Int) (v2 : Int) (v3 : Int) (u : Mu) (hf : m5_factPart v1 v2 v3 u = some r) : JM kT (bM G) (aM G) l yX5_factPart D5_factPart [pR (some G.1), pI v1, pI v2, pI v3] u (some (pI r)) u 0 0 := by
  refine j_met (lv0 := [(0, pR (some G.1)), (1, pI v1), (2, pI v2), (3, pI v3)]) ⟨pl_X5, rfl, rfl, (Nat.le_of_ble_eq_true rfl), rfl⟩ ?_
  unfold m5_factPart at hf
  refine j_aload_n dX5_factPart_0 0 rfl ?_
  refine j_iload_n dX5_factPart_1 1 rfl ?_
  obtain ⟨x1, hx1, hf⟩ := ob hf
  refine j_cVr [pI v1] [] kT_v (bM_mv G) (c5_isWording v1 u hx1) wv5_isWording dv5_isWording rfl ⟨(Nat.le_of_ble_eq_true rfl), (Nat.le_of_ble_eq_true rfl)⟩ (m_recv u) rfl (Nat.le_of_ble_eq_true rfl) dX5_factPart_2 ⟨Nat.le_refl 0, Nat.le_refl 0⟩ ?_
  refine j_if_eq (w32 x1) rfl 22 dX5_factPart_5 (by decide) (fun h17 => ?_) (fun h17 => ?_)
  · replace hf := it h17 hf
    refine j_iconst dX5_factPart_22 ?_
    replace hf := Option.some.inj hf
    subst hf
    exact j_ireturn (bM_mv G) ⟨Nat.le_refl 0, Nat.le_refl 0⟩ rfl dX5_factPart_23
  · replace hf := ie h17 hf
    refine j_iload_n dX5_factPart_8 2 rfl ?_
    refine j_if_lt (w32 v2) rfl 22 dX5_factPart_9 (by decide) (fun h16 => ?_) (fun h16 => ?_)
    · replace hf := it h16 hf
      refine j_iconst dX5_factPart_22 ?_
      replace hf := Option.some.inj hf
      subst hf
      exact j_ireturn (bM_mv G) ⟨Nat.le_refl 0, Nat.le_refl 0⟩ rfl dX5_factPart_23
    · replace hf := ie h16 hf
      refine j_iload_n dX5_factPart_12 2 rfl ?_
      refine j_aload_n dX5_factPart_13 0 rfl ?_
      refine m_geta mf_12 rfl dX5_factPart_14 ?_
      refine j_iload_n dX5_factPart_17 1 rfl ?_
      obtain ⟨x2, hx2, hf⟩ := ob hf
      refine m_iald mr_12 hx2 dX5_factPart_18 ?_
      refine j_icmp_lt (w32 v2) (w32 x2) rfl rfl 24 dX5_factPart_19 (by decide) (fun h15 => ?_) (fun h15 => ?_)
      · replace hf := it h15 hf
        refine j_bipush dX5_factPart_24 (by decide) ?_
        refine j_iload_n dX5_factPart_26 1 rfl ?_
        refine j_imul dX5_factPart_27 ?_
        refine j_iload_n dX5_factPart_28 2 rfl ?_
        refine j_iadd dX5_factPart_29 ?_
        refine j_istore dX5_factPart_30 [(4, pI ((8 * v1) + v2)), (0, pR (some G.1)), (1, pI v1), (2, pI v2), (3, pI v3)] (Nat.le_of_ble_eq_true rfl) rfl ?_
        refine j_iload_n dX5_factPart_32 4 rfl ?_
        rcases Decidable.em ((w32 v3) = 0) with h3 | h3
        · replace hf := it h3 hf
          refine j_tabIn (z := 0) 68 dX5_factPart_33 h3 ⟨⟨by decide, by decide⟩, rfl⟩ (by decide) ?_
          refine j_aload_n dX5_factPart_68 1 rfl ?_
          refine m_geta mf_14 rfl dX5_factPart_69 ?_
          refine j_iload dX5_factPart_72 0 rfl ?_
          obtain ⟨x4, hx4, hf⟩ := ob hf
          refine m_iald mr_14 hx4 dX5_factPart_74 ?_
          replace hf := Option.some.inj hf
          subst hf
          exact j_ireturn (bM_mv G) ⟨Nat.le_refl 0, Nat.le_refl 0⟩ rfl dX5_factPart_75
        replace hf := ie h3 hf
        rcases Decidable.em ((w32 v3) = 1) with h5 | h5
        · replace hf := it h5 hf
          refine j_tabIn (z := 1) 76 dX5_factPart_33 h5 ⟨⟨by decide, by decide⟩, rfl⟩ (by decide) ?_
          refine j_aload_n dX5_factPart_76 1 rfl ?_
          refine m_geta mf_14 rfl dX5_factPart_77 ?_
          refine j_iload dX5_factPart_80 0 rfl ?_
          obtain ⟨x6, hx6, hf⟩ := ob hf
          refine m_iald mr_14 hx6 dX5_factPart_82 ?_
          refine j_iconst dX5_factPart_83 ?_
          refine j_icmp_ne (w32 x6) 1 rfl rfl 97 dX5_factPart_84 (by decide) (fun h8 => ?_) (fun h8 => ?_)
          · replace hf := ie h8 hf
            refine j_iconst dX5_factPart_97 ?_
            replace hf := Option.some.inj hf
            subst hf
            exact j_ireturn (bM_mv G) ⟨Nat.le_refl 0, Nat.le_refl 0⟩ rfl dX5_factPart_98
          · replace hf := it h8 hf
            refine j_aload_n dX5_factPart_87 1 rfl ?_
            refine m_geta mf_15 rfl dX5_factPart_88 ?_
            refine j_iload dX5_factPart_91 0 rfl ?_
            obtain ⟨x7, hx7, hf⟩ := ob hf
            refine m_iald mr_15 hx7 dX5_factPart_93 ?_
            refine j_goto 98 dX5_factPart_94 (by decide) ?_
            replace hf := Option.some.inj hf
            subst hf
            exact j_ireturn (bM_mv G) ⟨Nat.le_refl 0, Nat.le_refl 0⟩ rfl dX5_factPart_98
        replace hf := ie h5 hf
        rcases Decidable.em ((w32 v3) = 2) with h9 | h9
        · replace hf := it h9 hf
          refine j_tabIn (z := 2) 99 dX5_factPart_33 h9 ⟨⟨by decide, by decide⟩, rfl⟩ (by decide) ?_
          refine j_aload_n dX5_factPart_99 1 rfl ?_
          refine m_geta mf_17 rfl dX5_factPart_100 ?_
          refine j_iload dX5_factPart_103 0 rfl ?_
          obtain ⟨x10, hx10, hf⟩ := ob hf
          refine m_iald mr_17 hx10 dX5_factPart_105 ?_
          replace hf := Option.some.inj hf
          subst hf
          exact j_ireturn (bM_mv G) ⟨Nat.le_refl 0, Nat.le_refl 0⟩ rfl dX5_factPart_106
        replace hf := ie h9 hf
        rcases Decidable.em ((w32 v3) = 3) with h11 | h11
        · replace hf := it h11 hf
          refine j_tabIn (z := 3) 107 dX5_factPart_33 h11 ⟨⟨by decide, by decide⟩, rfl⟩ (by decide) ?_
          refine j_aload_n dX5_factPart_107 1 rfl ?_
          refine m_geta mf_18 rfl dX5_factPart_108 ?_
          refine j_iload dX5_factPart_111 0 rfl ?_
          obtain ⟨x12, hx12, hf⟩ := ob hf
          refine m_iald mr_18 hx12 dX5_factPart_113 ?_
          replace hf := Option.some.inj hf
          subst hf
          exact j_ireturn (bM_mv G) ⟨Nat.le_refl 0, Nat.le_refl 0⟩ rfl dX5_factPart_114
        replace hf := ie h11 hf
        rcases Decidable.em ((w32 v3) = 4) with h13 | h13
        · replace hf := it h13 hf
          refine j_tabIn (z := 4) 115 dX5_factPart_33 h13 ⟨⟨by decide, by decide⟩, rfl⟩ (by decide) ?_
          refine j_aload_n dX5_factPart_115 1 rfl ?_
          refine m_geta mf_39 rfl dX5_factPart_116 ?_
          refine j_iload dX5_factPart_119 0 rfl ?_
          obtain ⟨x14, hx14, hf⟩ := ob hf
          refine m_iald mr_39 hx14 dX5_factPart_121 ?_
          replace hf := Option.some.inj hf
          subst hf
          exact j_ireturn (bM_mv G) ⟨Nat.le_refl 0, Nat.le_refl 0⟩ rfl dX5_factPart_122
        replace hf := ie h13 hf
        refine j_tabOut 123 dX5_factPart_33 (by omega) (by decide) ?_
        refine j_bipush dX5_factPart_123 (by decide) ?_
        replace hf := Option.some.inj hf
        subst hf
        exact j_ireturn (bM_mv G) ⟨Nat.le_refl 0, Nat.le_refl 0⟩ rfl dX5_factPart_125
      · replace hf := ie h15 hf
        refine j_iconst dX5_factPart_22 ?_
        replace hf := Option.some.inj hf
        subst hf
        exact j_ireturn (bM_mv G) ⟨Nat.le_refl 0, Nat.le_refl 0⟩ rfl dX5_factPart_23
theorem c5_clause {G : MG} {l : Launch} {r : Int} (v1 : Int) (v2 : Int) (u : Mu) (hf : m5_clause v1 v2 u = some r) : JM kT (bM G) (aM G) l yX5_clause D5_clause [pR (some G.1), pI v1, pI v2] u (some (pI r)) u 0 0 := by
  refine j_met (lv0 := [(0, pR (some G.1)), (1, pI v1), (2, pI v2)]) ⟨pl_X5, rfl, rfl, (Nat.le_of_ble_eq_true rfl), rfl⟩ ?_
  unfold m5_clause at hf
  refine j_aload_n dX5_clause_0 0 rfl ?_
  refine j_iload_n dX5_clause_1 1 rfl ?_
  obtain ⟨x1, hx1, hf⟩ := ob hf
  refine j_cVr [pI v1] [] kT_v (bM_mv G) (c5_isWording v1 u hx1) wv5_isWording dv5_isWording rfl ⟨(Nat.le_of_ble_eq_true rfl), (Nat.le_of_ble_eq_true rfl)⟩ (m_recv u) rfl (Nat.le_of_ble_eq_true rfl) dX5_clause_2 ⟨Nat.le_refl 0, Nat.le_refl 0⟩ ?_
  refine j_if_eq (w32 x1) rfl 39 dX5_clause_5 (by decide) (fun h6 => ?_) (fun h6 => ?_)
  · replace hf := it h6 hf
    refine j_iconst dX5_clause_39 ?_
    replace hf := Option.some.inj hf
    subst hf
    exact j_ireturn (bM_mv G) ⟨Nat.le_refl 0, Nat.le_refl 0⟩ rfl dX5_clause_40
  · replace hf := ie h6 hf
    refine j_iload_n dX5_clause_8 2 rfl ?_
    refine j_iconst dX5_clause_9 ?_
    refine j_icmp_lt (w32 v2) 1 rfl rfl 39 dX5_clause_10 (by decide) (fun h5 => ?_) (fun h5 => ?_)
    · replace hf := it h5 hf
      refine j_iconst dX5_clause_39 ?_
      replace hf := Option.some.inj hf
      subst hf
      exact j_ireturn (bM_mv G) ⟨Nat.le_refl 0, Nat.le_refl 0⟩ rfl dX5_clause_40
    · replace hf := ie h5 hf
      refine j_iload_n dX5_clause_13 2 rfl ?_
      refine j_aload_n dX5_clause_14 0 rfl ?_
      refine m_geta mf_23 rfl dX5_clause_15 ?_
      refine j_iload_n dX5_clause_18 1 rfl ?_
      obtain ⟨x2, hx2, hf⟩ := ob hf
      refine m_iald mr_23 hx2 dX5_clause_19 ?_
      refine j_icmp_gt (w32 v2) (w32 x2) rfl rfl 39 dX5_clause_20 (by decide) (fun h4 => ?_) (fun h4 => ?_)
      · replace hf := it h4 hf
        refine j_iconst dX5_clause_39 ?_
        replace hf := Option.some.inj hf
        subst hf
        exact j_ireturn (bM_mv G) ⟨Nat.le_refl 0, Nat.le_refl 0⟩ rfl dX5_clause_40
      · replace hf := ie h4 hf
        refine j_aload_n dX5_clause_23 0 rfl ?_
        refine m_geta mf_24 rfl dX5_clause_24 ?_
        refine j_bipush dX5_clause_27 (by decide) ?_
        refine j_iload_n dX5_clause_29 1 rfl ?_
        refine j_imul dX5_clause_30 ?_
        refine j_iload_n dX5_clause_31 2 rfl ?_
        refine j_iadd dX5_clause_32 ?_
        refine j_iconst dX5_clause_33 ?_
        refine j_isub dX5_clause_34 ?_
        obtain ⟨x3, hx3, hf⟩ := ob hf
        refine m_iald mr_24 hx3 dX5_clause_35 ?_
        refine j_goto 40 dX5_clause_36 (by decide) ?_
        replace hf := Option.some.inj hf
        subst hf
        exact j_ireturn (bM_mv G) ⟨Nat.le_refl 0, Nat.le_refl 0⟩ rfl dX5_clause_40
theorem c5_digitOf_l19 {G : MG} {l : Launch} {a : List PV} {r : Int} {Kf : Int → Option (Int)} (v3 : Int) (v4 : Int) (u : Mu) (hK0 : ∀ q : Int, Kf q = some r → J5 G l D5_digitOf a (some (pI r)) u u 43 [(5, pI q)] []) : ∀ (n : Nat) (v5 : Int), ((m5_digitOf_l19 v3 v4 u n v5).bind Kf = some r) → J5 G l D5_digitOf a (some (pI r)) u u 19 [(0, pR (some G.1)), (3, pI v3), (4, pI v4), (5, pI v5)] [] := by
  intro n
  induction n with
  | zero => intro v5 hf; exact onb hf
  | succ n ih =>
    intro v5 hf
    unfold m5_digitOf_l19 at hf
    refine j_aload_n dX5_digitOf_19 0 rfl ?_
    refine m_geta mf_38 rfl dX5_digitOf_20 ?_
    refine j_sipush dX5_digitOf_23 (by decide) ?_
    refine j_iload dX5_digitOf_26 2 rfl ?_
    refine j_imul dX5_digitOf_28 ?_
    refine j_iload dX5_digitOf_29 3 rfl ?_
    refine j_iadd dX5_digitOf_31 ?_
    obtain ⟨x1, hx1, hf⟩ := obb hf
    refine m_iald mr_38 hx1 dX5_digitOf_32 ?_
    refine j_iload_n dX5_digitOf_33 1 rfl ?_
    refine j_icmp_le (w32 x1) (w32 v3) rfl rfl 43 dX5_digitOf_34 (by decide) (fun h2 => ?_) (fun h2 => ?_)
    · replace hf := itb h2 hf
      exact j_sub [3] _ rfl (hK0 v5 hf)
    · replace hf := ieb h2 hf
      refine j_iinc dX5_digitOf_37 3 rfl [(5, pI (v5 + (-1))), (0, pR (some G.1)), (3, pI v3), (4, pI v4)] (Nat.le_of_ble_eq_true rfl) rfl ?_
      refine j_goto 19 dX5_digitOf_40 (by decide) ?_
      exact j_sub [1, 2, 3, 0] _ rfl (ih (v5 + (-1)) hf)
theorem c5_digitOf {G : MG} {l : Launch} {r : Int} (v1 : Int) (v2 : Int) (v3 : Int) (u : Mu) (hf : m5_digitOf v1 v2 v3 u = some r) : JM kT (bM G) (aM G) l yX5_digitOf D5_digitOf [pR (some G.1), pI v1, pI v2, pI v3] u (some (pI r)) u 0 0 := by
  refine j_met (lv0 := [(0, pR (some G.1)), (1, pI v1), (2, pI v2), (3, pI v3)]) ⟨pl_X5, rfl, rfl, (Nat.le_of_ble_eq_true rfl), rfl⟩ ?_
  unfold m5_digitOf at hf
  refine j_bipush dX5_digitOf_0 (by decide) ?_
  refine j_iload_n dX5_digitOf_2 1 rfl ?_
  refine j_imul dX5_digitOf_3 ?_
  refine j_iload_n dX5_digitOf_4 2 rfl ?_
  refine j_iadd dX5_digitOf_5 ?_
  refine j_istore dX5_digitOf_6 [(4, pI ((8 * v1) + v2)), (0, pR (some G.1)), (1, pI v1), (2, pI v2), (3, pI v3)] (Nat.le_of_ble_eq_true rfl) rfl ?_
  refine j_aload_n dX5_digitOf_8 1 rfl ?_
  refine m_geta mf_39 rfl dX5_digitOf_9 ?_
  refine j_iload dX5_digitOf_12 0 rfl ?_
  obtain ⟨x1, hx1, hf⟩ := ob hf
  refine m_iald mr_39 hx1 dX5_digitOf_14 ?_
  refine j_iconst dX5_digitOf_15 ?_
  refine j_isub dX5_digitOf_16 ?_
  refine j_istore dX5_digitOf_17 [(5, pI (x1 - 1)), (4, pI ((8 * v1) + v2)), (0, pR (some G.1)), (1, pI v1), (2, pI v2), (3, pI v3)] (Nat.le_of_ble_eq_true rfl) rfl ?_
  refine j_sub [2, 5, 1, 0] _ rfl (c5_digitOf_l19 v3 ((8 * v1) + v2) u ?_ NN (x1 - 1) hf)
  · intro q2 hf
    refine j_iload dX5_digitOf_43 0 rfl ?_
    replace hf := Option.some.inj hf
    subst hf
    exact j_ireturn (bM_mv G) ⟨Nat.le_refl 0, Nat.le_refl 0⟩ rfl dX5_digitOf_45
theorem c5_answerOf_l4 {G : MG} {l : Launch} {a : List PV} {r : Int} {Kf : Int → Option (Int)} (v1 : Int) (u : Mu) (hK0 : ∀ q : Int, Kf q = some r → J5 G l D5_answerOf a (some (pI r)) u u 47 [(0, pR (some G.1)), (1, pI v1), (2, pI q)] []) : ∀ (n : Nat) (v2 : Int) (v3 : Int), ((m5_answerOf_l4 v1 u n v2 v3).bind Kf = some r) → J5 G l D5_answerOf a (some (pI r)) u u 4 [(0, pR (some G.1)), (1, pI v1), (2, pI v2), (3, pI v3)] [] := by
  intro n
  induction n with
  | zero => intro v2 v3 hf; exact onb hf
  | succ n ih =>
    intro v2 v3 hf
    unfold m5_answerOf_l4 at hf
    refine j_iload_n dX5_answerOf_4 3 rfl ?_
    refine j_aload_n dX5_answerOf_5 0 rfl ?_
    refine m_geta mf_12 rfl dX5_answerOf_6 ?_
    refine j_iload_n dX5_answerOf_9 1 rfl ?_
    obtain ⟨x1, hx1, hf⟩ := obb hf
    refine m_iald mr_12 hx1 dX5_answerOf_10 ?_
    refine j_icmp_ge (w32 v3) (w32 x1) rfl rfl 47 dX5_answerOf_11 (by decide) (fun h5 => ?_) (fun h5 => ?_)
    · replace hf := itb h5 hf
      exact j_sub [0, 1, 2] _ rfl (hK0 v2 hf)
    · replace hf := ieb h5 hf
      refine j_iload_n dX5_answerOf_14 2 rfl ?_
      refine j_aload_n dX5_answerOf_15 0 rfl ?_
      refine m_geta mf_39 rfl dX5_answerOf_16 ?_
      refine j_bipush dX5_answerOf_19 (by decide) ?_
      refine j_iload_n dX5_answerOf_21 1 rfl ?_
      refine j_imul dX5_answerOf_22 ?_
      refine j_iload_n dX5_answerOf_23 3 rfl ?_
      refine j_iadd dX5_answerOf_24 ?_
      obtain ⟨x2, hx2, hf⟩ := obb hf
      refine m_iald mr_39 hx2 dX5_answerOf_25 ?_
      refine j_imul dX5_answerOf_26 ?_
      refine j_aload_n dX5_answerOf_27 0 rfl ?_
      refine j_iload_n dX5_answerOf_28 1 rfl ?_
      refine j_iload_n dX5_answerOf_29 3 rfl ?_
      refine j_aload_n dX5_answerOf_30 0 rfl ?_
      refine m_geta mf_59 rfl dX5_answerOf_31 ?_
      refine j_iload_n dX5_answerOf_34 3 rfl ?_
      obtain ⟨x3, hx3, hf⟩ := obb hf
      refine m_iald mr_59 hx3 dX5_answerOf_35 ?_
      obtain ⟨x4, hx4, hf⟩ := obb hf
      refine j_cVr [pI v1, pI v3, pI x3] [pI (v2 * x2)] kT_v (bM_mv G) (c5_digitOf v1 v3 x3 u hx4) wv5_digitOf dv5_digitOf rfl ⟨(Nat.le_of_ble_eq_true rfl), (Nat.le_of_ble_eq_true rfl)⟩ (m_recv u) rfl (Nat.le_of_ble_eq_true rfl) dX5_answerOf_36 ⟨Nat.le_refl 0, Nat.le_refl 0⟩ ?_
      refine j_iadd dX5_answerOf_39 ?_
      refine j_istore_n dX5_answerOf_40 [(2, pI ((v2 * x2) + x4)), (0, pR (some G.1)), (1, pI v1), (3, pI v3)] (Nat.le_of_ble_eq_true rfl) rfl ?_
      refine j_iinc dX5_answerOf_41 3 rfl [(3, pI (v3 + 1)), (2, pI ((v2 * x2) + x4)), (0, pR (some G.1)), (1, pI v1)] (Nat.le_of_ble_eq_true rfl) rfl ?_
      refine j_goto 4 dX5_answerOf_44 (by decide) ?_
      exact j_sub [2, 3, 1, 0] _ rfl (ih ((v2 * x2) + x4) (v3 + 1) hf)
theorem c5_answerOf {G : MG} {l : Launch} {r : Int} (v1 : Int) (u : Mu) (hf : m5_answerOf v1 u = some r) : JM kT (bM G) (aM G) l yX5_answerOf D5_answerOf [pR (some G.1), pI v1] u (some (pI r)) u 0 0 := by
  refine j_met (lv0 := [(0, pR (some G.1)), (1, pI v1)]) ⟨pl_X5, rfl, rfl, (Nat.le_of_ble_eq_true rfl), rfl⟩ ?_
  unfold m5_answerOf at hf
  refine j_iconst dX5_answerOf_0 ?_
  refine j_istore_n dX5_answerOf_1 [(2, pI 0), (0, pR (some G.1)), (1, pI v1)] (Nat.le_of_ble_eq_true rfl) rfl ?_
  refine j_iconst dX5_answerOf_2 ?_
  refine j_istore_n dX5_answerOf_3 [(3, pI 0), (2, pI 0), (0, pR (some G.1)), (1, pI v1)] (Nat.le_of_ble_eq_true rfl) rfl ?_
  refine j_sub [2, 3, 1, 0] _ rfl (c5_answerOf_l4 v1 u ?_ NN 0 0 hf)
  · intro q1 hf
    refine j_aload_n dX5_answerOf_47 0 rfl ?_
    refine m_geta mf_41 rfl dX5_answerOf_48 ?_
    refine j_sipush dX5_answerOf_51 (by decide) ?_
    refine j_iload_n dX5_answerOf_54 1 rfl ?_
    refine j_imul dX5_answerOf_55 ?_
    refine j_iload_n dX5_answerOf_56 2 rfl ?_
    refine j_iadd dX5_answerOf_57 ?_
    obtain ⟨x2, hx2, hf⟩ := ob hf
    refine m_zald mr_41 hx2 dX5_answerOf_58 ?_
    rcases Decidable.em (w32 x2 = 0 ∨ w32 x2 = 1) with h3 | h3
    · replace hf := it h3 hf
      replace hf := Option.some.inj hf
      subst hf
      exact j_zreturn (x := x2) (bM_mv G) ⟨Nat.le_refl 0, Nat.le_refl 0⟩ (ty := .boolean) rfl (nar_z h3) dX5_answerOf_59
    · exact onn (ie h3 hf)
theorem c5_isComparable_l135 {G : MG} {l : Launch} {a : List PV} {r : Int} {Kf : Int → Option (Int)} (v1 : Int) (v2 : Int) (v4 : Int) (v5 : Int) (v6 : Int) (u : Mu) (hK0 : ∀ q : Int, Kf q = some r → J5 G l D5_isComparable a (some (pI r)) u u 204 [(0, pR (some G.1)), (1, pI v1), (2, pI v2), (3, pI q), (4, pI v4)] []) : ∀ (n : Nat) (v3 : Int) (v7 : Int), ((m5_isComparable_l135 v1 v2 v4 v5 v6 u n v3 v7).bind Kf = some r) → J5 G l D5_isComparable a (some (pI r)) u u 135 [(0, pR (some G.1)), (1, pI v1), (2, pI v2), (3, pI v3), (4, pI v4), (5, pI v5), (6, pI v6), (7, pI v7)] [] := by
  intro n
  induction n with
  | zero => intro v3 v7 hf; exact onb hf
  | succ n ih =>
    intro v3 v7 hf
    unfold m5_isComparable_l135 at hf
    refine j_iload_n dX5_isComparable_135 3 rfl ?_
    refine j_if_eq (w32 v3) rfl 204 dX5_isComparable_136 (by decide) (fun h8 => ?_) (fun h8 => ?_)
    · replace hf := itb h8 hf
      exact j_sub [0, 1, 2, 3, 4] _ rfl (hK0 v3 hf)
    · replace hf := ieb h8 hf
      refine j_aload_n dX5_isComparable_139 0 rfl ?_
      refine m_geta mf_14 rfl dX5_isComparable_140 ?_
      refine j_iload dX5_isComparable_143 5 rfl ?_
      obtain ⟨x1, hx1, hf⟩ := obb hf
      refine m_iald mr_14 hx1 dX5_isComparable_145 ?_
      refine j_iconst dX5_isComparable_146 ?_
      refine j_icmp_ne (w32 x1) 1 rfl rfl 204 dX5_isComparable_147 (by decide) (fun h7 => ?_) (fun h7 => ?_)
      · replace hf := ieb h7 hf
        exact j_sub [0, 1, 2, 3, 4] _ rfl (hK0 v3 hf)
      · replace hf := itb h7 hf
        refine j_iload dX5_isComparable_150 7 rfl ?_
        refine j_aload_n dX5_isComparable_152 0 rfl ?_
        refine m_geta mf_15 rfl dX5_isComparable_153 ?_
        refine j_iload dX5_isComparable_156 5 rfl ?_
        obtain ⟨x2, hx2, hf⟩ := obb hf
        refine m_iald mr_15 hx2 dX5_isComparable_158 ?_
        refine j_icmp_ge (w32 v7) (w32 x2) rfl rfl 204 dX5_isComparable_159 (by decide) (fun h6 => ?_) (fun h6 => ?_)
        · replace hf := itb h6 hf
          exact j_sub [0, 1, 2, 3, 4] _ rfl (hK0 v3 hf)
        · replace hf := ieb h6 hf
          refine j_aload_n dX5_isComparable_162 0 rfl ?_
          refine m_geta mf_16 rfl dX5_isComparable_163 ?_
          refine j_bipush dX5_isComparable_166 (by decide) ?_
          refine j_iload dX5_isComparable_168 5 rfl ?_
          refine j_imul dX5_isComparable_170 ?_
          refine j_iload dX5_isComparable_171 7 rfl ?_
          refine j_iadd dX5_isComparable_173 ?_
          obtain ⟨x3, hx3, hf⟩ := obb hf
          refine m_lald mr_16 hx3 dX5_isComparable_174 ?_
          refine j_aload_n dX5_isComparable_175 0 rfl ?_
          refine m_geta mf_16 rfl dX5_isComparable_176 ?_
          refine j_bipush dX5_isComparable_179 (by decide) ?_
          refine j_iload dX5_isComparable_181 6 rfl ?_
          refine j_imul dX5_isComparable_183 ?_
          refine j_iload dX5_isComparable_184 7 rfl ?_
          refine j_iadd dX5_isComparable_186 ?_
          obtain ⟨x4, hx4, hf⟩ := obb hf
          refine m_lald mr_16 hx4 dX5_isComparable_187 ?_
          refine j_lc_ne 196 dX5_isComparable_188 dX5_isComparable_189 (by decide) (fun h5 => ?_) (fun h5 => ?_)
          · replace hf := ieb h5 hf
            refine j_iconst dX5_isComparable_196 ?_
            refine j_istore_n dX5_isComparable_197 [(3, pI 0), (0, pR (some G.1)), (1, pI v1), (2, pI v2), (4, pI v4), (5, pI v5), (6, pI v6), (7, pI v7)] (Nat.le_of_ble_eq_true rfl) rfl ?_
            refine j_iinc dX5_isComparable_198 7 rfl [(7, pI (v7 + 1)), (3, pI 0), (0, pR (some G.1)), (1, pI v1), (2, pI v2), (4, pI v4), (5, pI v5), (6, pI v6)] (Nat.le_of_ble_eq_true rfl) rfl ?_
            refine j_goto 135 dX5_isComparable_201 (by decide) ?_
            exact j_sub [2, 3, 4, 1, 5, 6, 7, 0] _ rfl (ih 0 (v7 + 1) hf)
          · replace hf := itb h5 hf
            refine j_iconst dX5_isComparable_192 ?_
            refine j_goto 197 dX5_isComparable_193 (by decide) ?_
            refine j_istore_n dX5_isComparable_197 [(3, pI 1), (0, pR (some G.1)), (1, pI v1), (2, pI v2), (4, pI v4), (5, pI v5), (6, pI v6), (7, pI v7)] (Nat.le_of_ble_eq_true rfl) rfl ?_
            refine j_iinc dX5_isComparable_198 7 rfl [(7, pI (v7 + 1)), (3, pI 1), (0, pR (some G.1)), (1, pI v1), (2, pI v2), (4, pI v4), (5, pI v5), (6, pI v6)] (Nat.le_of_ble_eq_true rfl) rfl ?_
            refine j_goto 135 dX5_isComparable_201 (by decide) ?_
            exact j_sub [2, 3, 4, 1, 5, 6, 7, 0] _ rfl (ih 1 (v7 + 1) hf)
theorem c5_isComparable_b131 {G : MG} {l : Launch} {a : List PV} {r : Int} {Kf : Int → Option (Int)} {v1 : Int} {v2 : Int} {u : Mu} (kh : Int → Int → Option (Int)) (hkh : ∀ (z3 : Int) (z4 : Int), ((kh z3 z4).bind Kf = some r) → J5 G l D5_isComparable a (some (pI r)) u u 24 [(0, pR (some G.1)), (1, pI v1), (2, pI v2), (3, pI z3), (4, pI z4)] []) (hK0 : ∀ q : Int, Kf q = some r → J5 G l D5_isComparable a (some (pI r)) u u 210 [(3, pI q)] []) (v4 : Int) (v5 : Int) (v6 : Int) (s0 : Int) (hf : (m5_isComparable_b131 kh v1 v2 v4 v5 v6 s0 u).bind Kf = some r) : J5 G l D5_isComparable a (some (pI r)) u u 131 [(0, pR (some G.1)), (1, pI v1), (2, pI v2), (4, pI v4), (5, pI v5), (6, pI v6)] [pI s0] := by
  unfold m5_isComparable_b131 at hf
  refine j_istore_n dX5_isComparable_131 [(3, pI s0), (0, pR (some G.1)), (1, pI v1), (2, pI v2), (4, pI v4), (5, pI v5), (6, pI v6)] (Nat.le_of_ble_eq_true rfl) rfl ?_
  refine j_iconst dX5_isComparable_132 ?_
  refine j_istore dX5_isComparable_133 [(7, pI 0), (3, pI s0), (0, pR (some G.1)), (1, pI v1), (2, pI v2), (4, pI v4), (5, pI v5), (6, pI v6)] (Nat.le_of_ble_eq_true rfl) rfl ?_
  replace hf := oba hf
  refine j_sub [2, 3, 4, 1, 5, 6, 7, 0] _ rfl (c5_isComparable_l135 v1 v2 v4 v5 v6 u ?_ NN s0 0 hf)
  · intro q1 hf
    refine j_iinc dX5_isComparable_204 4 rfl [(4, pI (v4 + 1)), (0, pR (some G.1)), (1, pI v1), (2, pI v2), (3, pI q1)] (Nat.le_of_ble_eq_true rfl) rfl ?_
    refine j_goto 24 dX5_isComparable_207 (by decide) ?_
    exact j_sub [1, 2, 3, 4, 0] _ rfl (hkh q1 (v4 + 1) hf)
theorem c5_isComparable_b130 {G : MG} {l : Launch} {a : List PV} {r : Int} {Kf : Int → Option (Int)} {v1 : Int} {v2 : Int} {u : Mu} (kh : Int → Int → Option (Int)) (hkh : ∀ (z3 : Int) (z4 : Int), ((kh z3 z4).bind Kf = some r) → J5 G l D5_isComparable a (some (pI r)) u u 24 [(0, pR (some G.1)), (1, pI v1), (2, pI v2), (3, pI z3), (4, pI z4)] []) (hK0 : ∀ q : Int, Kf q = some r → J5 G l D5_isComparable a (some (pI r)) u u 210 [(3, pI q)] []) (v4 : Int) (v5 : Int) (v6 : Int) (hf : (m5_isComparable_b130 kh v1 v2 v4 v5 v6 u).bind Kf = some r) : J5 G l D5_isComparable a (some (pI r)) u u 130 [(0, pR (some G.1)), (1, pI v1), (2, pI v2), (4, pI v4), (5, pI v5), (6, pI v6)] [] := by
  unfold m5_isComparable_b130 at hf
  refine j_iconst dX5_isComparable_130 ?_
  exact j_sub [0, 1, 2, 3, 4, 5] _ rfl (c5_isComparable_b131 (kh) hkh hK0 v4 v5 v6 0 hf)
theorem c5_isComparable_l24 {G : MG} {l : Launch} {a : List PV} {r : Int} {Kf : Int → Option (Int)} (v1 : Int) (v2 : Int) (u : Mu) (hK0 : ∀ q : Int, Kf q = some r → J5 G l D5_isComparable a (some (pI r)) u u 210 [(3, pI q)] []) : ∀ (n : Nat) (v3 : Int) (v4 : Int), ((m5_isComparable_l24 v1 v2 u n v3 v4).bind Kf = some r) → J5 G l D5_isComparable a (some (pI r)) u u 24 [(0, pR (some G.1)), (1, pI v1), (2, pI v2), (3, pI v3), (4, pI v4)] [] := by
  intro n
  induction n with
  | zero => intro v3 v4 hf; exact onb hf
  | succ n ih =>
    intro v3 v4 hf
    unfold m5_isComparable_l24 at hf
    refine j_iload dX5_isComparable_24 4 rfl ?_
    refine j_aload_n dX5_isComparable_26 0 rfl ?_
    refine m_geta mf_12 rfl dX5_isComparable_27 ?_
    refine j_iload_n dX5_isComparable_30 1 rfl ?_
    obtain ⟨x1, hx1, hf⟩ := obb hf
    refine m_iald mr_12 hx1 dX5_isComparable_31 ?_
    refine j_icmp_ge (w32 v4) (w32 x1) rfl rfl 210 dX5_isComparable_32 (by decide) (fun h15 => ?_) (fun h15 => ?_)
    · replace hf := itb h15 hf
      exact j_sub [3] _ rfl (hK0 v3 hf)
    · replace hf := ieb h15 hf
      refine j_iload_n dX5_isComparable_35 3 rfl ?_
      refine j_if_eq (w32 v3) rfl 210 dX5_isComparable_36 (by decide) (fun h14 => ?_) (fun h14 => ?_)
      · replace hf := itb h14 hf
        exact j_sub [3] _ rfl (hK0 v3 hf)
      · replace hf := ieb h14 hf
        refine j_bipush dX5_isComparable_39 (by decide) ?_
        refine j_iload_n dX5_isComparable_41 1 rfl ?_
        refine j_imul dX5_isComparable_42 ?_
        refine j_iload dX5_isComparable_43 4 rfl ?_
        refine j_iadd dX5_isComparable_45 ?_
        refine j_istore dX5_isComparable_46 [(5, pI ((8 * v1) + v4)), (0, pR (some G.1)), (1, pI v1), (2, pI v2), (3, pI v3), (4, pI v4)] (Nat.le_of_ble_eq_true rfl) rfl ?_
        refine j_bipush dX5_isComparable_48 (by decide) ?_
        refine j_iload_n dX5_isComparable_50 3 rfl ?_
        refine j_imul dX5_isComparable_51 ?_
        refine j_iload dX5_isComparable_52 5 rfl ?_
        refine j_iadd dX5_isComparable_54 ?_
        refine j_istore dX5_isComparable_55 [(6, pI ((8 * v2) + v4)), (5, pI ((8 * v1) + v4)), (0, pR (some G.1)), (1, pI v1), (2, pI v2), (3, pI v3), (4, pI v4)] (Nat.le_of_ble_eq_true rfl) rfl ?_
        refine j_aload_n dX5_isComparable_57 2 rfl ?_
        refine m_geta mf_13 rfl dX5_isComparable_58 ?_
        refine j_iload dX5_isComparable_61 1 rfl ?_
        obtain ⟨x2, hx2, hf⟩ := obb hf
        refine m_lald mr_13 hx2 dX5_isComparable_63 ?_
        refine j_aload_n dX5_isComparable_64 2 rfl ?_
        refine m_geta mf_13 rfl dX5_isComparable_65 ?_
        refine j_iload dX5_isComparable_68 0 rfl ?_
        obtain ⟨x3, hx3, hf⟩ := obb hf
        refine m_lald mr_13 hx3 dX5_isComparable_70 ?_
        refine j_lc_ne 130 dX5_isComparable_71 dX5_isComparable_72 (by decide) (fun h13 => ?_) (fun h13 => ?_)
        · replace hf := ieb h13 hf
          exact j_sub [2, 3, 4, 6, 1, 0] _ rfl (c5_isComparable_b130 (m5_isComparable_l24 v1 v2 u n) ih hK0 v4 ((8 * v1) + v4) ((8 * v2) + v4) hf)
        · replace hf := itb h13 hf
          refine j_aload_n dX5_isComparable_75 2 rfl ?_
          refine m_geta mf_14 rfl dX5_isComparable_76 ?_
          refine j_iload dX5_isComparable_79 1 rfl ?_
          obtain ⟨x4, hx4, hf⟩ := obb hf
          refine m_iald mr_14 hx4 dX5_isComparable_81 ?_
          refine j_aload_n dX5_isComparable_82 2 rfl ?_
          refine m_geta mf_14 rfl dX5_isComparable_83 ?_
          refine j_iload dX5_isComparable_86 0 rfl ?_
          obtain ⟨x5, hx5, hf⟩ := obb hf
          refine m_iald mr_14 hx5 dX5_isComparable_88 ?_
          refine j_icmp_ne (w32 x4) (w32 x5) rfl rfl 130 dX5_isComparable_89 (by decide) (fun h12 => ?_) (fun h12 => ?_)
          · replace hf := ieb h12 hf
            exact j_sub [2, 3, 4, 6, 1, 0] _ rfl (c5_isComparable_b130 (m5_isComparable_l24 v1 v2 u n) ih hK0 v4 ((8 * v1) + v4) ((8 * v2) + v4) hf)
          · replace hf := itb h12 hf
            refine j_aload_n dX5_isComparable_92 2 rfl ?_
            refine m_geta mf_17 rfl dX5_isComparable_93 ?_
            refine j_iload dX5_isComparable_96 1 rfl ?_
            obtain ⟨x6, hx6, hf⟩ := obb hf
            refine m_iald mr_17 hx6 dX5_isComparable_98 ?_
            refine j_aload_n dX5_isComparable_99 2 rfl ?_
            refine m_geta mf_17 rfl dX5_isComparable_100 ?_
            refine j_iload dX5_isComparable_103 0 rfl ?_
            obtain ⟨x7, hx7, hf⟩ := obb hf
            refine m_iald mr_17 hx7 dX5_isComparable_105 ?_
            refine j_icmp_ne (w32 x6) (w32 x7) rfl rfl 130 dX5_isComparable_106 (by decide) (fun h11 => ?_) (fun h11 => ?_)
            · replace hf := ieb h11 hf
              exact j_sub [2, 3, 4, 6, 1, 0] _ rfl (c5_isComparable_b130 (m5_isComparable_l24 v1 v2 u n) ih hK0 v4 ((8 * v1) + v4) ((8 * v2) + v4) hf)
            · replace hf := itb h11 hf
              refine j_aload_n dX5_isComparable_109 2 rfl ?_
              refine m_geta mf_18 rfl dX5_isComparable_110 ?_
              refine j_iload dX5_isComparable_113 1 rfl ?_
              obtain ⟨x8, hx8, hf⟩ := obb hf
              refine m_iald mr_18 hx8 dX5_isComparable_115 ?_
              refine j_aload_n dX5_isComparable_116 2 rfl ?_
              refine m_geta mf_18 rfl dX5_isComparable_117 ?_
              refine j_iload dX5_isComparable_120 0 rfl ?_
              obtain ⟨x9, hx9, hf⟩ := obb hf
              refine m_iald mr_18 hx9 dX5_isComparable_122 ?_
              refine j_icmp_ne (w32 x8) (w32 x9) rfl rfl 130 dX5_isComparable_123 (by decide) (fun h10 => ?_) (fun h10 => ?_)
              · replace hf := ieb h10 hf
                exact j_sub [2, 3, 4, 6, 1, 0] _ rfl (c5_isComparable_b130 (m5_isComparable_l24 v1 v2 u n) ih hK0 v4 ((8 * v1) + v4) ((8 * v2) + v4) hf)
              · replace hf := itb h10 hf
                refine j_iconst dX5_isComparable_126 ?_
                refine j_goto 131 dX5_isComparable_127 (by decide) ?_
                exact j_sub [2, 3, 4, 6, 1, 0] _ rfl (c5_isComparable_b131 (m5_isComparable_l24 v1 v2 u n) ih hK0 v4 ((8 * v1) + v4) ((8 * v2) + v4) 1 hf)
theorem c5_isComparable_b20 {G : MG} {l : Launch} {a : List PV} {r : Int} (v1 : Int) (v2 : Int) (s0 : Int) (u : Mu) (hf : m5_isComparable_b20 v1 v2 s0 u = some r) : J5 G l D5_isComparable a (some (pI r)) u u 20 [(0, pR (some G.1)), (1, pI v1), (2, pI v2)] [pI s0] := by
  unfold m5_isComparable_b20 at hf
  refine j_istore_n dX5_isComparable_20 [(3, pI s0), (0, pR (some G.1)), (1, pI v1), (2, pI v2)] (Nat.le_of_ble_eq_true rfl) rfl ?_
  refine j_iconst dX5_isComparable_21 ?_
  refine j_istore dX5_isComparable_22 [(4, pI 0), (3, pI s0), (0, pR (some G.1)), (1, pI v1), (2, pI v2)] (Nat.le_of_ble_eq_true rfl) rfl ?_
  refine j_sub [2, 3, 4, 1, 0] _ rfl (c5_isComparable_l24 v1 v2 u ?_ NN s0 0 hf)
  · intro q1 hf
    refine j_iload_n dX5_isComparable_210 0 rfl ?_
    rcases Decidable.em (w32 q1 = 0 ∨ w32 q1 = 1) with h2 | h2
    · replace hf := it h2 hf
      replace hf := Option.some.inj hf
      subst hf
      exact j_zreturn (x := q1) (bM_mv G) ⟨Nat.le_refl 0, Nat.le_refl 0⟩ (ty := .boolean) rfl (nar_z h2) dX5_isComparable_211
    · exact onn (ie h2 hf)
theorem c5_isComparable {G : MG} {l : Launch} {r : Int} (v1 : Int) (v2 : Int) (u : Mu) (hf : m5_isComparable v1 v2 u = some r) : JM kT (bM G) (aM G) l yX5_isComparable D5_isComparable [pR (some G.1), pI v1, pI v2] u (some (pI r)) u 0 0 := by
  refine j_met (lv0 := [(0, pR (some G.1)), (1, pI v1), (2, pI v2)]) ⟨pl_X5, rfl, rfl, (Nat.le_of_ble_eq_true rfl), rfl⟩ ?_
  unfold m5_isComparable at hf
  refine j_aload_n dX5_isComparable_0 0 rfl ?_
  refine m_geta mf_12 rfl dX5_isComparable_1 ?_
  refine j_iload_n dX5_isComparable_4 1 rfl ?_
  obtain ⟨x1, hx1, hf⟩ := ob hf
  refine m_iald mr_12 hx1 dX5_isComparable_5 ?_
  refine j_aload_n dX5_isComparable_6 0 rfl ?_
  refine m_geta mf_12 rfl dX5_isComparable_7 ?_
  refine j_iload_n dX5_isComparable_10 2 rfl ?_
  obtain ⟨x2, hx2, hf⟩ := ob hf
  refine m_iald mr_12 hx2 dX5_isComparable_11 ?_
  refine j_icmp_ne (w32 x1) (w32 x2) rfl rfl 19 dX5_isComparable_12 (by decide) (fun h3 => ?_) (fun h3 => ?_)
  · replace hf := ie h3 hf
    refine j_iconst dX5_isComparable_19 ?_
    exact j_sub [0, 1, 2] _ rfl (c5_isComparable_b20 v1 v2 0 u hf)
  · replace hf := it h3 hf
    refine j_iconst dX5_isComparable_15 ?_
    refine j_goto 20 dX5_isComparable_16 (by decide) ?_
    exact j_sub [0, 1, 2] _ rfl (c5_isComparable_b20 v1 v2 1 u hf)
theorem c5_putBoth_l10 {G : MG} {l : Launch} {a : List PV} {r : Mu} {Kf : Int → Option (Mu)} (v1 : Int) (v2 : Int) (v3 : Int) (u : Mu) (hK0 : ∀ q : Int, Kf q = some r → J5 G l D5_putBoth a none r u 40 [(0, pR (some G.1)), (1, pI v1), (2, pI v2), (3, pI v3), (4, pI q)] []) : ∀ (n : Nat) (v4 : Int), ((m5_putBoth_l10 v1 v2 v3 u n v4).bind Kf = some r) → J5 G l D5_putBoth a none r u 10 [(0, pR (some G.1)), (1, pI v1), (2, pI v2), (3, pI v3), (4, pI v4)] [] := by
  intro n
  induction n with
  | zero => intro v4 hf; exact onb hf
  | succ n ih =>
    intro v4 hf
    unfold m5_putBoth_l10 at hf
    refine j_iload dX5_putBoth_10 4 rfl ?_
    refine j_if_le (w32 v4) rfl 40 dX5_putBoth_12 (by decide) (fun h3 => ?_) (fun h3 => ?_)
    · replace hf := itb h3 hf
      exact j_sub [0, 1, 2, 3, 4] _ rfl (hK0 v4 hf)
    · replace hf := ieb h3 hf
      refine j_aload_n dX5_putBoth_15 0 rfl ?_
      refine m_geta mf_63 rfl dX5_putBoth_16 ?_
      refine j_sipush dX5_putBoth_19 (by decide) ?_
      refine j_iload_n dX5_putBoth_22 1 rfl ?_
      refine j_imul dX5_putBoth_23 ?_
      refine j_iload dX5_putBoth_24 4 rfl ?_
      refine j_iadd dX5_putBoth_26 ?_
      refine j_iconst dX5_putBoth_27 ?_
      refine j_isub dX5_putBoth_28 ?_
      obtain ⟨x1, hx1, hf⟩ := obb hf
      refine m_iald mr_63 hx1 dX5_putBoth_29 ?_
      refine j_iload_n dX5_putBoth_30 2 rfl ?_
      refine j_icmp_lt (w32 x1) (w32 v2) rfl rfl 40 dX5_putBoth_31 (by decide) (fun h2 => ?_) (fun h2 => ?_)
      · replace hf := itb h2 hf
        exact j_sub [0, 1, 2, 3, 4] _ rfl (hK0 v4 hf)
      · replace hf := ieb h2 hf
        refine j_iinc dX5_putBoth_34 4 rfl [(4, pI (v4 + (-1))), (0, pR (some G.1)), (1, pI v1), (2, pI v2), (3, pI v3)] (Nat.le_of_ble_eq_true rfl) rfl ?_
        refine j_goto 10 dX5_putBoth_37 (by decide) ?_
        exact j_sub [1, 2, 3, 4, 0] _ rfl (ih (v4 + (-1)) hf)
theorem c5_putBoth_l67 {G : MG} {l : Launch} {a : List PV} {r : Mu} {Kf : Mu → Option (Mu)} (v1 : Int) (v2 : Int) (v4 : Int) (hK0 : ∀ q : Mu, Kf q = some r → J5 G l D5_putBoth a none r q 108 [(0, pR (some G.1)), (1, pI v1), (2, pI v2), (4, pI v4)] []) : ∀ (n : Nat) (v5 : Int) (u : Mu), ((m5_putBoth_l67 v1 v2 v4 n v5 u).bind Kf = some r) → J5 G l D5_putBoth a none r u 67 [(0, pR (some G.1)), (1, pI v1), (2, pI v2), (4, pI v4), (5, pI v5)] [] := by
  intro n
  induction n with
  | zero => intro v5 u hf; exact onb hf
  | succ n ih =>
    intro v5 u hf
    unfold m5_putBoth_l67 at hf
    refine j_iload dX5_putBoth_67 4 rfl ?_
    refine j_iload dX5_putBoth_69 3 rfl ?_
    refine j_icmp_le (w32 v5) (w32 v4) rfl rfl 108 dX5_putBoth_71 (by decide) (fun h3 => ?_) (fun h3 => ?_)
    · replace hf := itb h3 hf
      exact j_sub [0, 1, 2, 3] _ rfl (hK0 u hf)
    · replace hf := ieb h3 hf
      refine j_aload_n dX5_putBoth_74 0 rfl ?_
      refine m_geta mf_63 rfl dX5_putBoth_75 ?_
      refine j_sipush dX5_putBoth_78 (by decide) ?_
      refine j_iload_n dX5_putBoth_81 1 rfl ?_
      refine j_imul dX5_putBoth_82 ?_
      refine j_iload dX5_putBoth_83 4 rfl ?_
      refine j_iadd dX5_putBoth_85 ?_
      refine j_aload_n dX5_putBoth_86 0 rfl ?_
      refine m_geta mf_63 rfl dX5_putBoth_87 ?_
      refine j_sipush dX5_putBoth_90 (by decide) ?_
      refine j_iload_n dX5_putBoth_93 1 rfl ?_
      refine j_imul dX5_putBoth_94 ?_
      refine j_iload dX5_putBoth_95 4 rfl ?_
      refine j_iadd dX5_putBoth_97 ?_
      refine j_iconst dX5_putBoth_98 ?_
      refine j_isub dX5_putBoth_99 ?_
      obtain ⟨x1, hx1, hf⟩ := obb hf
      refine m_iald mr_63 hx1 dX5_putBoth_100 ?_
      obtain ⟨u2, hu2, hf⟩ := obb hf
      refine m_iast mr_63 hu2 dX5_putBoth_101 ?_
      refine j_iinc dX5_putBoth_102 4 rfl [(5, pI (v5 + (-1))), (0, pR (some G.1)), (1, pI v1), (2, pI v2), (4, pI v4)] (Nat.le_of_ble_eq_true rfl) rfl ?_
      refine j_goto 67 dX5_putBoth_105 (by decide) ?_
      exact j_sub [1, 2, 3, 4, 0] _ rfl (ih (v5 + (-1)) u2 hf)
theorem c5_putBoth_b64 {G : MG} {l : Launch} {a : List PV} {r : Mu} (v1 : Int) (v2 : Int) (v3 : Int) (v4 : Int) (u : Mu) (hf : m5_putBoth_b64 v1 v2 v3 v4 u = some r) : J5 G l D5_putBoth a none r u 64 [(0, pR (some G.1)), (1, pI v1), (2, pI v2), (3, pI v3), (4, pI v4)] [] := by
  unfold m5_putBoth_b64 at hf
  refine j_iload_n dX5_putBoth_64 3 rfl ?_
  refine j_istore dX5_putBoth_65 [(5, pI v3), (0, pR (some G.1)), (1, pI v1), (2, pI v2), (3, pI v3), (4, pI v4)] (Nat.le_of_ble_eq_true rfl) rfl ?_
  refine j_sub [1, 2, 3, 5, 0] _ rfl (c5_putBoth_l67 v1 v2 v4 ?_ NN v3 u hf)
  · intro q1 hf
    refine j_aload_n dX5_putBoth_108 0 rfl ?_
    refine m_geta mf_63 rfl dX5_putBoth_109 ?_
    refine j_sipush dX5_putBoth_112 (by decide) ?_
    refine j_iload_n dX5_putBoth_115 1 rfl ?_
    refine j_imul dX5_putBoth_116 ?_
    refine j_iload dX5_putBoth_117 3 rfl ?_
    refine j_iadd dX5_putBoth_119 ?_
    refine j_iload_n dX5_putBoth_120 2 rfl ?_
    obtain ⟨u2, hu2, hf⟩ := ob hf
    refine m_iast mr_63 hu2 dX5_putBoth_121 ?_
    refine j_aload_n dX5_putBoth_122 0 rfl ?_
    refine m_geta mf_64 rfl dX5_putBoth_123 ?_
    refine j_iload_n dX5_putBoth_126 1 rfl ?_
    refine j_dup2_11 dX5_putBoth_127 rfl rfl ?_
    obtain ⟨x3, hx3, hf⟩ := ob hf
    refine m_iald mr_64 hx3 dX5_putBoth_128 ?_
    refine j_iconst dX5_putBoth_129 ?_
    refine j_iadd dX5_putBoth_130 ?_
    obtain ⟨u4, hu4, hf⟩ := ob hf
    refine m_iast mr_64 hu4 dX5_putBoth_131 ?_
    replace hf := Option.some.inj hf
    subst hf
    exact j_return (bM_mv G) ⟨Nat.le_refl 0, Nat.le_refl 0⟩ rfl dX5_putBoth_132
theorem c5_putBoth_b40 {G : MG} {l : Launch} {a : List PV} {r : Mu} (v1 : Int) (v2 : Int) (v3 : Int) (v4 : Int) (u : Mu) (hf : m5_putBoth_b40 v1 v2 v3 v4 u = some r) : J5 G l D5_putBoth a none r u 40 [(0, pR (some G.1)), (1, pI v1), (2, pI v2), (3, pI v3), (4, pI v4)] [] := by
  unfold m5_putBoth_b40 at hf
  refine j_iload dX5_putBoth_40 4 rfl ?_
  refine j_iload_n dX5_putBoth_42 3 rfl ?_
  refine j_icmp_ge (w32 v4) (w32 v3) rfl rfl 64 dX5_putBoth_43 (by decide) (fun h3 => ?_) (fun h3 => ?_)
  · replace hf := it h3 hf
    exact j_sub [0, 1, 2, 3, 4] _ rfl (c5_putBoth_b64 v1 v2 v3 v4 u hf)
  · replace hf := ie h3 hf
    refine j_aload_n dX5_putBoth_46 0 rfl ?_
    refine m_geta mf_63 rfl dX5_putBoth_47 ?_
    refine j_sipush dX5_putBoth_50 (by decide) ?_
    refine j_iload_n dX5_putBoth_53 1 rfl ?_
    refine j_imul dX5_putBoth_54 ?_
    refine j_iload dX5_putBoth_55 4 rfl ?_
    refine j_iadd dX5_putBoth_57 ?_
    obtain ⟨x1, hx1, hf⟩ := ob hf
    refine m_iald mr_63 hx1 dX5_putBoth_58 ?_
    refine j_iload_n dX5_putBoth_59 2 rfl ?_
    refine j_icmp_ne (w32 x1) (w32 v2) rfl rfl 64 dX5_putBoth_60 (by decide) (fun h2 => ?_) (fun h2 => ?_)
    · replace hf := ie h2 hf
      exact j_sub [0, 1, 2, 3, 4] _ rfl (c5_putBoth_b64 v1 v2 v3 v4 u hf)
    · replace hf := it h2 hf
      replace hf := Option.some.inj hf
      subst hf
      exact j_return (bM_mv G) ⟨Nat.le_refl 0, Nat.le_refl 0⟩ rfl dX5_putBoth_63
theorem c5_putBoth {G : MG} {l : Launch} {r : Mu} (v1 : Int) (v2 : Int) (u : Mu) (hf : m5_putBoth v1 v2 u = some r) : JM kT (bM G) (aM G) l yX5_putBoth D5_putBoth [pR (some G.1), pI v1, pI v2] u none r 0 0 := by
  refine j_met (lv0 := [(0, pR (some G.1)), (1, pI v1), (2, pI v2)]) ⟨pl_X5, rfl, rfl, (Nat.le_of_ble_eq_true rfl), rfl⟩ ?_
  unfold m5_putBoth at hf
  refine j_aload_n dX5_putBoth_0 0 rfl ?_
  refine m_geta mf_64 rfl dX5_putBoth_1 ?_
  refine j_iload_n dX5_putBoth_4 1 rfl ?_
  obtain ⟨x1, hx1, hf⟩ := ob hf
  refine m_iald mr_64 hx1 dX5_putBoth_5 ?_
  refine j_istore_n dX5_putBoth_6 [(3, pI x1), (0, pR (some G.1)), (1, pI v1), (2, pI v2)] (Nat.le_of_ble_eq_true rfl) rfl ?_
  refine j_iload_n dX5_putBoth_7 0 rfl ?_
  refine j_istore dX5_putBoth_8 [(4, pI x1), (3, pI x1), (0, pR (some G.1)), (1, pI v1), (2, pI v2)] (Nat.le_of_ble_eq_true rfl) rfl ?_
  refine j_sub [2, 3, 4, 1, 0] _ rfl (c5_putBoth_l10 v1 v2 x1 u ?_ NN x1 hf)
  · intro q2 hf
    exact j_sub [0, 1, 2, 3, 4] _ rfl (c5_putBoth_b40 v1 v2 x1 q2 u hf)

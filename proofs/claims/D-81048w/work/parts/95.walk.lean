/-! THE WALK of the twin's constructor (printed by gen_init.py) -/
def z0 : Mu := (fun _ => 0, fun _ _ => 0)
section
variable {G' : MG} {aK aV : Nat} {f : Option Nat} {l : Launch} {Q : List Frame → State → State → Prop}
abbrev IV9 (G' : MG) (aK aV : Nat) (f : Option Nat) (l : Launch) (Q : List Frame → State → State → Prop) (w : Mu × Nat × Nat) (ce sl pc : Nat) (lv : List (Nat × PV)) (st : List PV) : Prop := IW G' aK aV f l [pR (some G'.1)] Q 87 299598 w ce sl pc lv st
theorem i_p0 (hG : GI G') (kk : IV9 G' aK aV f l Q ((ms z0 10 (-1)), 15, 15) 15 6144 135 [(0, pR (some G'.1))] []) : IV9 G' aK aV f l Q (z0, 0, 0) 0 0 4 [(0, pR (some G'.1))] [] := by
  refine j_aload_n dX5_init_4 0 rfl ?_
  refine j_bipush dX5_init_5 (by decide) ?_
  refine i_new (n := 30) 1 mr_0 rfl (fun _ => rfl) rfl zat_4 dX5_init_7 ⟨Nat.le_of_ble_eq_true rfl, Nat.le_of_ble_eq_true rfl⟩ (Nat.le_of_ble_eq_true rfl) ?_
  refine i_put 1 hG mf_0 (by decide) rfl rfl rfl dX5_init_9 ?_
  refine j_aload_n dX5_init_12 0 rfl ?_
  refine j_sipush dX5_init_13 (by decide) ?_
  refine i_new (n := 4000) 2 mr_1 rfl (fun _ => rfl) rfl zat_2 dX5_init_16 ⟨Nat.le_of_ble_eq_true rfl, Nat.le_of_ble_eq_true rfl⟩ (Nat.le_of_ble_eq_true rfl) ?_
  refine i_put 2 hG mf_1 (by decide) rfl rfl rfl dX5_init_18 ?_
  refine j_aload_n dX5_init_21 0 rfl ?_
  refine j_iconst dX5_init_22 ?_
  refine i_puts mf_10 mfw_10 dX5_init_23 ?_
  refine j_aload_n dX5_init_26 0 rfl ?_
  refine j_bipush dX5_init_27 (by decide) ?_
  refine i_new (n := 14) 3 mr_12 rfl (fun _ => rfl) rfl zat_1 dX5_init_29 ⟨Nat.le_of_ble_eq_true rfl, Nat.le_of_ble_eq_true rfl⟩ (Nat.le_of_ble_eq_true rfl) ?_
  refine i_put 3 hG mf_12 (by decide) rfl rfl rfl dX5_init_31 ?_
  refine j_aload_n dX5_init_34 0 rfl ?_
  refine j_bipush dX5_init_35 (by decide) ?_
  refine i_new (n := 112) 4 mr_13 rfl (fun _ => rfl) rfl zat_4 dX5_init_37 ⟨Nat.le_of_ble_eq_true rfl, Nat.le_of_ble_eq_true rfl⟩ (Nat.le_of_ble_eq_true rfl) ?_
  refine i_put 4 hG mf_13 (by decide) rfl rfl rfl dX5_init_39 ?_
  refine j_aload_n dX5_init_42 0 rfl ?_
  refine j_bipush dX5_init_43 (by decide) ?_
  refine i_new (n := 112) 5 mr_14 rfl (fun _ => rfl) rfl zat_1 dX5_init_45 ⟨Nat.le_of_ble_eq_true rfl, Nat.le_of_ble_eq_true rfl⟩ (Nat.le_of_ble_eq_true rfl) ?_
  refine i_put 5 hG mf_14 (by decide) rfl rfl rfl dX5_init_47 ?_
  refine j_aload_n dX5_init_50 0 rfl ?_
  refine j_bipush dX5_init_51 (by decide) ?_
  refine i_new (n := 112) 6 mr_15 rfl (fun _ => rfl) rfl zat_1 dX5_init_53 ⟨Nat.le_of_ble_eq_true rfl, Nat.le_of_ble_eq_true rfl⟩ (Nat.le_of_ble_eq_true rfl) ?_
  refine i_put 6 hG mf_15 (by decide) rfl rfl rfl dX5_init_55 ?_
  refine j_aload_n dX5_init_58 0 rfl ?_
  refine j_sipush dX5_init_59 (by decide) ?_
  refine i_new (n := 672) 7 mr_16 rfl (fun _ => rfl) rfl zat_4 dX5_init_62 ⟨Nat.le_of_ble_eq_true rfl, Nat.le_of_ble_eq_true rfl⟩ (Nat.le_of_ble_eq_true rfl) ?_
  refine i_put 7 hG mf_16 (by decide) rfl rfl rfl dX5_init_64 ?_
  refine j_aload_n dX5_init_67 0 rfl ?_
  refine j_bipush dX5_init_68 (by decide) ?_
  refine i_new (n := 112) 8 mr_17 rfl (fun _ => rfl) rfl zat_1 dX5_init_70 ⟨Nat.le_of_ble_eq_true rfl, Nat.le_of_ble_eq_true rfl⟩ (Nat.le_of_ble_eq_true rfl) ?_
  refine i_put 8 hG mf_17 (by decide) rfl rfl rfl dX5_init_72 ?_
  refine j_aload_n dX5_init_75 0 rfl ?_
  refine j_bipush dX5_init_76 (by decide) ?_
  refine i_new (n := 112) 9 mr_18 rfl (fun _ => rfl) rfl zat_1 dX5_init_78 ⟨Nat.le_of_ble_eq_true rfl, Nat.le_of_ble_eq_true rfl⟩ (Nat.le_of_ble_eq_true rfl) ?_
  refine i_put 9 hG mf_18 (by decide) rfl rfl rfl dX5_init_80 ?_
  refine j_aload_n dX5_init_83 0 rfl ?_
  refine j_bipush dX5_init_84 (by decide) ?_
  refine i_new (n := 14) 10 mr_19 rfl (fun _ => rfl) rfl zat_1 dX5_init_86 ⟨Nat.le_of_ble_eq_true rfl, Nat.le_of_ble_eq_true rfl⟩ (Nat.le_of_ble_eq_true rfl) ?_
  refine i_put 10 hG mf_19 (by decide) rfl rfl rfl dX5_init_88 ?_
  refine j_aload_n dX5_init_91 0 rfl ?_
  refine j_sipush dX5_init_92 (by decide) ?_
  refine i_new (n := 168) 11 mr_20 rfl (fun _ => rfl) rfl zat_4 dX5_init_95 ⟨Nat.le_of_ble_eq_true rfl, Nat.le_of_ble_eq_true rfl⟩ (Nat.le_of_ble_eq_true rfl) ?_
  refine i_put 11 hG mf_20 (by decide) rfl rfl rfl dX5_init_97 ?_
  refine j_aload_n dX5_init_100 0 rfl ?_
  refine j_sipush dX5_init_101 (by decide) ?_
  refine i_new (n := 168) 12 mr_21 rfl (fun _ => rfl) rfl zat_1 dX5_init_104 ⟨Nat.le_of_ble_eq_true rfl, Nat.le_of_ble_eq_true rfl⟩ (Nat.le_of_ble_eq_true rfl) ?_
  refine i_put 12 hG mf_21 (by decide) rfl rfl rfl dX5_init_106 ?_
  refine j_aload_n dX5_init_109 0 rfl ?_
  refine j_sipush dX5_init_110 (by decide) ?_
  refine i_new (n := 168) 13 mr_22 rfl (fun _ => rfl) rfl zat_1 dX5_init_113 ⟨Nat.le_of_ble_eq_true rfl, Nat.le_of_ble_eq_true rfl⟩ (Nat.le_of_ble_eq_true rfl) ?_
  refine i_put 13 hG mf_22 (by decide) rfl rfl rfl dX5_init_115 ?_
  refine j_aload_n dX5_init_118 0 rfl ?_
  refine j_bipush dX5_init_119 (by decide) ?_
  refine i_new (n := 14) 14 mr_23 rfl (fun _ => rfl) rfl zat_1 dX5_init_121 ⟨Nat.le_of_ble_eq_true rfl, Nat.le_of_ble_eq_true rfl⟩ (Nat.le_of_ble_eq_true rfl) ?_
  refine i_put 14 hG mf_23 (by decide) rfl rfl rfl dX5_init_123 ?_
  refine j_aload_n dX5_init_126 0 rfl ?_
  refine j_sipush dX5_init_127 (by decide) ?_
  refine i_new (n := 336) 15 mr_24 rfl (fun _ => rfl) rfl zat_1 dX5_init_130 ⟨Nat.le_of_ble_eq_true rfl, Nat.le_of_ble_eq_true rfl⟩ (Nat.le_of_ble_eq_true rfl) ?_
  refine i_put 15 hG mf_24 (by decide) rfl rfl rfl dX5_init_132 ?_
  exact kk
theorem i_p1 (hG : GI G') (kk : IV9 G' aK aV f l Q ((ms z0 10 (-1)), 30, 30) 30 210866 261 [(0, pR (some G'.1))] []) : IV9 G' aK aV f l Q ((ms z0 10 (-1)), 15, 15) 15 6144 135 [(0, pR (some G'.1))] [] := by
  refine j_aload_n dX5_init_135 0 rfl ?_
  refine j_sipush dX5_init_136 (by decide) ?_
  refine i_new (n := 336) 16 mr_25 rfl (fun _ => rfl) rfl zat_1 dX5_init_139 ⟨Nat.le_of_ble_eq_true rfl, Nat.le_of_ble_eq_true rfl⟩ (Nat.le_of_ble_eq_true rfl) ?_
  refine i_put 16 hG mf_25 (by decide) rfl rfl rfl dX5_init_141 ?_
  refine j_aload_n dX5_init_144 0 rfl ?_
  refine j_sipush dX5_init_145 (by decide) ?_
  refine i_new (n := 336) 17 mr_26 rfl (fun _ => rfl) rfl zat_1 dX5_init_148 ⟨Nat.le_of_ble_eq_true rfl, Nat.le_of_ble_eq_true rfl⟩ (Nat.le_of_ble_eq_true rfl) ?_
  refine i_put 17 hG mf_26 (by decide) rfl rfl rfl dX5_init_150 ?_
  refine j_aload_n dX5_init_153 0 rfl ?_
  refine j_bipush dX5_init_154 (by decide) ?_
  refine i_new (n := 14) 18 mr_27 rfl (fun _ => rfl) rfl zat_1 dX5_init_156 ⟨Nat.le_of_ble_eq_true rfl, Nat.le_of_ble_eq_true rfl⟩ (Nat.le_of_ble_eq_true rfl) ?_
  refine i_put 18 hG mf_27 (by decide) rfl rfl rfl dX5_init_158 ?_
  refine j_aload_n dX5_init_161 0 rfl ?_
  refine j_sipush dX5_init_162 (by decide) ?_
  refine i_new (n := 336) 19 mr_28 rfl (fun _ => rfl) rfl zat_1 dX5_init_165 ⟨Nat.le_of_ble_eq_true rfl, Nat.le_of_ble_eq_true rfl⟩ (Nat.le_of_ble_eq_true rfl) ?_
  refine i_put 19 hG mf_28 (by decide) rfl rfl rfl dX5_init_167 ?_
  refine j_aload_n dX5_init_170 0 rfl ?_
  refine j_sipush dX5_init_171 (by decide) ?_
  refine i_new (n := 336) 20 mr_29 rfl (fun _ => rfl) rfl zat_1 dX5_init_174 ⟨Nat.le_of_ble_eq_true rfl, Nat.le_of_ble_eq_true rfl⟩ (Nat.le_of_ble_eq_true rfl) ?_
  refine i_put 20 hG mf_29 (by decide) rfl rfl rfl dX5_init_176 ?_
  refine j_aload_n dX5_init_179 0 rfl ?_
  refine j_sipush dX5_init_180 (by decide) ?_
  refine i_new (n := 336) 21 mr_30 rfl (fun _ => rfl) rfl zat_1 dX5_init_183 ⟨Nat.le_of_ble_eq_true rfl, Nat.le_of_ble_eq_true rfl⟩ (Nat.le_of_ble_eq_true rfl) ?_
  refine i_put 21 hG mf_30 (by decide) rfl rfl rfl dX5_init_185 ?_
  refine j_aload_n dX5_init_188 0 rfl ?_
  refine j_sipush dX5_init_189 (by decide) ?_
  refine i_new (n := 336) 22 mr_31 rfl (fun _ => rfl) rfl zat_1 dX5_init_192 ⟨Nat.le_of_ble_eq_true rfl, Nat.le_of_ble_eq_true rfl⟩ (Nat.le_of_ble_eq_true rfl) ?_
  refine i_put 22 hG mf_31 (by decide) rfl rfl rfl dX5_init_194 ?_
  refine j_aload_n dX5_init_197 0 rfl ?_
  refine j_bipush dX5_init_198 (by decide) ?_
  refine i_new (n := 70) 23 mr_32 rfl (fun _ => rfl) rfl zat_1 dX5_init_200 ⟨Nat.le_of_ble_eq_true rfl, Nat.le_of_ble_eq_true rfl⟩ (Nat.le_of_ble_eq_true rfl) ?_
  refine i_put 23 hG mf_32 (by decide) rfl rfl rfl dX5_init_202 ?_
  refine j_aload_n dX5_init_205 0 rfl ?_
  refine j_bipush dX5_init_206 (by decide) ?_
  refine i_new (n := 14) 24 mr_33 rfl (fun _ => rfl) rfl zat_1 dX5_init_208 ⟨Nat.le_of_ble_eq_true rfl, Nat.le_of_ble_eq_true rfl⟩ (Nat.le_of_ble_eq_true rfl) ?_
  refine i_put 24 hG mf_33 (by decide) rfl rfl rfl dX5_init_210 ?_
  refine j_aload_n dX5_init_213 0 rfl ?_
  refine j_ldc (z := 33600) q1794 (by decide) dX5_init_214 ?_
  refine i_new (n := 33600) 25 mr_34 rfl (fun _ => rfl) rfl zat_2 dX5_init_216 ⟨Nat.le_of_ble_eq_true rfl, Nat.le_of_ble_eq_true rfl⟩ (Nat.le_of_ble_eq_true rfl) ?_
  refine i_put 25 hG mf_34 (by decide) rfl rfl rfl dX5_init_218 ?_
  refine j_aload_n dX5_init_221 0 rfl ?_
  refine j_ldc (z := 33600) q1794 (by decide) dX5_init_222 ?_
  refine i_new (n := 33600) 26 mr_35 rfl (fun _ => rfl) rfl zat_2 dX5_init_224 ⟨Nat.le_of_ble_eq_true rfl, Nat.le_of_ble_eq_true rfl⟩ (Nat.le_of_ble_eq_true rfl) ?_
  refine i_put 26 hG mf_35 (by decide) rfl rfl rfl dX5_init_226 ?_
  refine j_aload_n dX5_init_229 0 rfl ?_
  refine j_ldc (z := 33600) q1794 (by decide) dX5_init_230 ?_
  refine i_new (n := 33600) 27 mr_36 rfl (fun _ => rfl) rfl zat_2 dX5_init_232 ⟨Nat.le_of_ble_eq_true rfl, Nat.le_of_ble_eq_true rfl⟩ (Nat.le_of_ble_eq_true rfl) ?_
  refine i_put 27 hG mf_36 (by decide) rfl rfl rfl dX5_init_234 ?_
  refine j_aload_n dX5_init_237 0 rfl ?_
  refine j_ldc (z := 33600) q1794 (by decide) dX5_init_238 ?_
  refine i_new (n := 33600) 28 mr_37 rfl (fun _ => rfl) rfl zat_1 dX5_init_240 ⟨Nat.le_of_ble_eq_true rfl, Nat.le_of_ble_eq_true rfl⟩ (Nat.le_of_ble_eq_true rfl) ?_
  refine i_put 28 hG mf_37 (by decide) rfl rfl rfl dX5_init_242 ?_
  refine j_aload_n dX5_init_245 0 rfl ?_
  refine j_ldc (z := 68096) q1795 (by decide) dX5_init_246 ?_
  refine i_new (n := 68096) 29 mr_38 rfl (fun _ => rfl) rfl zat_1 dX5_init_248 ⟨Nat.le_of_ble_eq_true rfl, Nat.le_of_ble_eq_true rfl⟩ (Nat.le_of_ble_eq_true rfl) ?_
  refine i_put 29 hG mf_38 (by decide) rfl rfl rfl dX5_init_250 ?_
  refine j_aload_n dX5_init_253 0 rfl ?_
  refine j_bipush dX5_init_254 (by decide) ?_
  refine i_new (n := 112) 30 mr_39 rfl (fun _ => rfl) rfl zat_1 dX5_init_256 ⟨Nat.le_of_ble_eq_true rfl, Nat.le_of_ble_eq_true rfl⟩ (Nat.le_of_ble_eq_true rfl) ?_
  refine i_put 30 hG mf_39 (by decide) rfl rfl rfl dX5_init_258 ?_
  exact kk
theorem i_p2 (hG : GI G') (kk : IV9 G' aK aV f l Q ((ms z0 10 (-1)), 45, 45) 45 269124 392 [(0, pR (some G'.1))] []) : IV9 G' aK aV f l Q ((ms z0 10 (-1)), 30, 30) 30 210866 261 [(0, pR (some G'.1))] [] := by
  refine j_aload_n dX5_init_261 0 rfl ?_
  refine j_bipush dX5_init_262 (by decide) ?_
  refine i_new (n := 14) 31 mr_40 rfl (fun _ => rfl) rfl zat_1 dX5_init_264 ⟨Nat.le_of_ble_eq_true rfl, Nat.le_of_ble_eq_true rfl⟩ (Nat.le_of_ble_eq_true rfl) ?_
  refine i_put 31 hG mf_40 (by decide) rfl rfl rfl dX5_init_266 ?_
  refine j_aload_n dX5_init_269 0 rfl ?_
  refine j_sipush dX5_init_270 (by decide) ?_
  refine i_new (n := 28000) 32 mr_41 rfl (fun _ => rfl) rfl zat_3 dX5_init_273 ⟨Nat.le_of_ble_eq_true rfl, Nat.le_of_ble_eq_true rfl⟩ (Nat.le_of_ble_eq_true rfl) ?_
  refine i_put 32 hG mf_41 (by decide) rfl rfl rfl dX5_init_275 ?_
  refine j_aload_n dX5_init_278 0 rfl ?_
  refine j_sipush dX5_init_279 (by decide) ?_
  refine i_new (n := 4100) 33 mr_42 rfl (fun _ => rfl) rfl zat_2 dX5_init_282 ⟨Nat.le_of_ble_eq_true rfl, Nat.le_of_ble_eq_true rfl⟩ (Nat.le_of_ble_eq_true rfl) ?_
  refine i_put 33 hG mf_42 (by decide) rfl rfl rfl dX5_init_284 ?_
  refine j_aload_n dX5_init_287 0 rfl ?_
  refine j_sipush dX5_init_288 (by decide) ?_
  refine i_new (n := 4100) 34 mr_43 rfl (fun _ => rfl) rfl zat_2 dX5_init_291 ⟨Nat.le_of_ble_eq_true rfl, Nat.le_of_ble_eq_true rfl⟩ (Nat.le_of_ble_eq_true rfl) ?_
  refine i_put 34 hG mf_43 (by decide) rfl rfl rfl dX5_init_293 ?_
  refine j_aload_n dX5_init_296 0 rfl ?_
  refine j_sipush dX5_init_297 (by decide) ?_
  refine i_new (n := 4100) 35 mr_44 rfl (fun _ => rfl) rfl zat_2 dX5_init_300 ⟨Nat.le_of_ble_eq_true rfl, Nat.le_of_ble_eq_true rfl⟩ (Nat.le_of_ble_eq_true rfl) ?_
  refine i_put 35 hG mf_44 (by decide) rfl rfl rfl dX5_init_302 ?_
  refine j_aload_n dX5_init_305 0 rfl ?_
  refine j_sipush dX5_init_306 (by decide) ?_
  refine i_new (n := 4100) 36 mr_45 rfl (fun _ => rfl) rfl zat_1 dX5_init_309 ⟨Nat.le_of_ble_eq_true rfl, Nat.le_of_ble_eq_true rfl⟩ (Nat.le_of_ble_eq_true rfl) ?_
  refine i_put 36 hG mf_45 (by decide) rfl rfl rfl dX5_init_311 ?_
  refine j_aload_n dX5_init_314 0 rfl ?_
  refine j_sipush dX5_init_315 (by decide) ?_
  refine i_new (n := 4100) 37 mr_48 rfl (fun _ => rfl) rfl zat_1 dX5_init_318 ⟨Nat.le_of_ble_eq_true rfl, Nat.le_of_ble_eq_true rfl⟩ (Nat.le_of_ble_eq_true rfl) ?_
  refine i_put 37 hG mf_48 (by decide) rfl rfl rfl dX5_init_320 ?_
  refine j_aload_n dX5_init_323 0 rfl ?_
  refine j_sipush dX5_init_324 (by decide) ?_
  refine i_new (n := 1400) 38 mr_53 rfl (fun _ => rfl) rfl zat_1 dX5_init_327 ⟨Nat.le_of_ble_eq_true rfl, Nat.le_of_ble_eq_true rfl⟩ (Nat.le_of_ble_eq_true rfl) ?_
  refine i_put 38 hG mf_53 (by decide) rfl rfl rfl dX5_init_329 ?_
  refine j_aload_n dX5_init_332 0 rfl ?_
  refine j_sipush dX5_init_333 (by decide) ?_
  refine i_new (n := 1400) 39 mr_54 rfl (fun _ => rfl) rfl zat_1 dX5_init_336 ⟨Nat.le_of_ble_eq_true rfl, Nat.le_of_ble_eq_true rfl⟩ (Nat.le_of_ble_eq_true rfl) ?_
  refine i_put 39 hG mf_54 (by decide) rfl rfl rfl dX5_init_338 ?_
  refine j_aload_n dX5_init_341 0 rfl ?_
  refine j_sipush dX5_init_342 (by decide) ?_
  refine i_new (n := 1400) 40 mr_55 rfl (fun _ => rfl) rfl zat_1 dX5_init_345 ⟨Nat.le_of_ble_eq_true rfl, Nat.le_of_ble_eq_true rfl⟩ (Nat.le_of_ble_eq_true rfl) ?_
  refine i_put 40 hG mf_55 (by decide) rfl rfl rfl dX5_init_347 ?_
  refine j_aload_n dX5_init_350 0 rfl ?_
  refine j_bipush dX5_init_351 (by decide) ?_
  refine i_new (n := 24) 41 mr_57 rfl (fun _ => rfl) rfl zat_1 dX5_init_353 ⟨Nat.le_of_ble_eq_true rfl, Nat.le_of_ble_eq_true rfl⟩ (Nat.le_of_ble_eq_true rfl) ?_
  refine i_put 41 hG mf_57 (by decide) rfl rfl rfl dX5_init_355 ?_
  refine j_aload_n dX5_init_358 0 rfl ?_
  refine j_sipush dX5_init_359 (by decide) ?_
  refine i_new (n := 1400) 42 mr_58 rfl (fun _ => rfl) rfl zat_3 dX5_init_362 ⟨Nat.le_of_ble_eq_true rfl, Nat.le_of_ble_eq_true rfl⟩ (Nat.le_of_ble_eq_true rfl) ?_
  refine i_put 42 hG mf_58 (by decide) rfl rfl rfl dX5_init_364 ?_
  refine j_aload_n dX5_init_367 0 rfl ?_
  refine j_bipush dX5_init_368 (by decide) ?_
  refine i_new (n := 8) 43 mr_59 rfl (fun _ => rfl) rfl zat_1 dX5_init_370 ⟨Nat.le_of_ble_eq_true rfl, Nat.le_of_ble_eq_true rfl⟩ (Nat.le_of_ble_eq_true rfl) ?_
  refine i_put 43 hG mf_59 (by decide) rfl rfl rfl dX5_init_372 ?_
  refine j_aload_n dX5_init_375 0 rfl ?_
  refine j_sipush dX5_init_376 (by decide) ?_
  refine i_new (n := 4100) 44 mr_60 rfl (fun _ => rfl) rfl zat_3 dX5_init_379 ⟨Nat.le_of_ble_eq_true rfl, Nat.le_of_ble_eq_true rfl⟩ (Nat.le_of_ble_eq_true rfl) ?_
  refine i_put 44 hG mf_60 (by decide) rfl rfl rfl dX5_init_381 ?_
  refine j_aload_n dX5_init_384 0 rfl ?_
  refine j_bipush dX5_init_385 (by decide) ?_
  refine i_new (n := 12) 45 mr_61 rfl (fun _ => rfl) rfl zat_3 dX5_init_387 ⟨Nat.le_of_ble_eq_true rfl, Nat.le_of_ble_eq_true rfl⟩ (Nat.le_of_ble_eq_true rfl) ?_
  refine i_put 45 hG mf_61 (by decide) rfl rfl rfl dX5_init_389 ?_
  exact kk
theorem i_p3 (hG : GI G') (kk : IV9 G' aK aV f l Q ((ms (ms z0 10 (-1)) 70 (-1)), 60, 60) 60 290662 520 [(0, pR (some G'.1))] []) : IV9 G' aK aV f l Q ((ms z0 10 (-1)), 45, 45) 45 269124 392 [(0, pR (some G'.1))] [] := by
  refine j_aload_n dX5_init_392 0 rfl ?_
  refine j_sipush dX5_init_393 (by decide) ?_
  refine i_new (n := 16000) 46 mr_63 rfl (fun _ => rfl) rfl zat_1 dX5_init_396 ⟨Nat.le_of_ble_eq_true rfl, Nat.le_of_ble_eq_true rfl⟩ (Nat.le_of_ble_eq_true rfl) ?_
  refine i_put 46 hG mf_63 (by decide) rfl rfl rfl dX5_init_398 ?_
  refine j_aload_n dX5_init_401 0 rfl ?_
  refine j_bipush dX5_init_402 (by decide) ?_
  refine i_new (n := 8) 47 mr_64 rfl (fun _ => rfl) rfl zat_1 dX5_init_404 ⟨Nat.le_of_ble_eq_true rfl, Nat.le_of_ble_eq_true rfl⟩ (Nat.le_of_ble_eq_true rfl) ?_
  refine i_put 47 hG mf_64 (by decide) rfl rfl rfl dX5_init_406 ?_
  refine j_aload_n dX5_init_409 0 rfl ?_
  refine j_bipush dX5_init_410 (by decide) ?_
  refine i_new (n := 16) 48 mr_66 rfl (fun _ => rfl) rfl zat_1 dX5_init_412 ⟨Nat.le_of_ble_eq_true rfl, Nat.le_of_ble_eq_true rfl⟩ (Nat.le_of_ble_eq_true rfl) ?_
  refine i_put 48 hG mf_66 (by decide) rfl rfl rfl dX5_init_414 ?_
  refine j_aload_n dX5_init_417 0 rfl ?_
  refine j_iconst dX5_init_418 ?_
  refine i_new (n := 2) 49 mr_67 rfl (fun _ => rfl) rfl zat_1 dX5_init_419 ⟨Nat.le_of_ble_eq_true rfl, Nat.le_of_ble_eq_true rfl⟩ (Nat.le_of_ble_eq_true rfl) ?_
  refine i_put 49 hG mf_67 (by decide) rfl rfl rfl dX5_init_421 ?_
  refine j_aload_n dX5_init_424 0 rfl ?_
  refine j_bipush dX5_init_425 (by decide) ?_
  refine i_new (n := 8) 50 mr_69 rfl (fun _ => rfl) rfl zat_1 dX5_init_427 ⟨Nat.le_of_ble_eq_true rfl, Nat.le_of_ble_eq_true rfl⟩ (Nat.le_of_ble_eq_true rfl) ?_
  refine i_put 50 hG mf_69 (by decide) rfl rfl rfl dX5_init_429 ?_
  refine j_aload_n dX5_init_432 0 rfl ?_
  refine j_iconst dX5_init_433 ?_
  refine i_puts mf_70 mfw_70 dX5_init_434 ?_
  refine j_aload_n dX5_init_437 0 rfl ?_
  refine j_bipush dX5_init_438 (by decide) ?_
  refine i_new (n := 33) 51 mr_72 rfl (fun _ => rfl) rfl zat_1 dX5_init_440 ⟨Nat.le_of_ble_eq_true rfl, Nat.le_of_ble_eq_true rfl⟩ (Nat.le_of_ble_eq_true rfl) ?_
  refine i_put 51 hG mf_72 (by decide) rfl rfl rfl dX5_init_442 ?_
  refine j_aload_n dX5_init_445 0 rfl ?_
  refine j_sipush dX5_init_446 (by decide) ?_
  refine i_new (n := 1584) 52 mr_73 rfl (fun _ => rfl) rfl zat_1 dX5_init_449 ⟨Nat.le_of_ble_eq_true rfl, Nat.le_of_ble_eq_true rfl⟩ (Nat.le_of_ble_eq_true rfl) ?_
  refine i_put 52 hG mf_73 (by decide) rfl rfl rfl dX5_init_451 ?_
  refine j_aload_n dX5_init_454 0 rfl ?_
  refine j_sipush dX5_init_455 (by decide) ?_
  refine i_new (n := 1584) 53 mr_74 rfl (fun _ => rfl) rfl zat_1 dX5_init_458 ⟨Nat.le_of_ble_eq_true rfl, Nat.le_of_ble_eq_true rfl⟩ (Nat.le_of_ble_eq_true rfl) ?_
  refine i_put 53 hG mf_74 (by decide) rfl rfl rfl dX5_init_460 ?_
  refine j_aload_n dX5_init_463 0 rfl ?_
  refine j_sipush dX5_init_464 (by decide) ?_
  refine i_new (n := 264) 54 mr_75 rfl (fun _ => rfl) rfl zat_1 dX5_init_467 ⟨Nat.le_of_ble_eq_true rfl, Nat.le_of_ble_eq_true rfl⟩ (Nat.le_of_ble_eq_true rfl) ?_
  refine i_put 54 hG mf_75 (by decide) rfl rfl rfl dX5_init_469 ?_
  refine j_aload_n dX5_init_472 0 rfl ?_
  refine j_bipush dX5_init_473 (by decide) ?_
  refine i_new (n := 8) 55 mr_76 rfl (fun _ => rfl) rfl zat_1 dX5_init_475 ⟨Nat.le_of_ble_eq_true rfl, Nat.le_of_ble_eq_true rfl⟩ (Nat.le_of_ble_eq_true rfl) ?_
  refine i_put 55 hG mf_76 (by decide) rfl rfl rfl dX5_init_477 ?_
  refine j_aload_n dX5_init_480 0 rfl ?_
  refine j_bipush dX5_init_481 (by decide) ?_
  refine i_new (n := 8) 56 mr_77 rfl (fun _ => rfl) rfl zat_1 dX5_init_483 ⟨Nat.le_of_ble_eq_true rfl, Nat.le_of_ble_eq_true rfl⟩ (Nat.le_of_ble_eq_true rfl) ?_
  refine i_put 56 hG mf_77 (by decide) rfl rfl rfl dX5_init_485 ?_
  refine j_aload_n dX5_init_488 0 rfl ?_
  refine j_iconst dX5_init_489 ?_
  refine i_new (n := 2) 57 mr_78 rfl (fun _ => rfl) rfl zat_1 dX5_init_490 ⟨Nat.le_of_ble_eq_true rfl, Nat.le_of_ble_eq_true rfl⟩ (Nat.le_of_ble_eq_true rfl) ?_
  refine i_put 57 hG mf_78 (by decide) rfl rfl rfl dX5_init_492 ?_
  refine j_aload_n dX5_init_495 0 rfl ?_
  refine j_sipush dX5_init_496 (by decide) ?_
  refine i_new (n := 2000) 58 mr_79 rfl (fun _ => rfl) rfl zat_1 dX5_init_499 ⟨Nat.le_of_ble_eq_true rfl, Nat.le_of_ble_eq_true rfl⟩ (Nat.le_of_ble_eq_true rfl) ?_
  refine i_put 58 hG mf_79 (by decide) rfl rfl rfl dX5_init_501 ?_
  refine j_aload_n dX5_init_504 0 rfl ?_
  refine j_bipush dX5_init_505 (by decide) ?_
  refine i_new (n := 8) 59 mr_80 rfl (fun _ => rfl) rfl zat_1 dX5_init_507 ⟨Nat.le_of_ble_eq_true rfl, Nat.le_of_ble_eq_true rfl⟩ (Nat.le_of_ble_eq_true rfl) ?_
  refine i_put 59 hG mf_80 (by decide) rfl rfl rfl dX5_init_509 ?_
  refine j_aload_n dX5_init_512 0 rfl ?_
  refine j_bipush dX5_init_513 (by decide) ?_
  refine i_new (n := 13) 60 mr_82 rfl (fun _ => rfl) rfl zat_1 dX5_init_515 ⟨Nat.le_of_ble_eq_true rfl, Nat.le_of_ble_eq_true rfl⟩ (Nat.le_of_ble_eq_true rfl) ?_
  refine i_put 60 hG mf_82 (by decide) rfl rfl rfl dX5_init_517 ?_
  exact kk
theorem i_p4 (hG : GI G') (kk : IV9 G' aK aV f l Q ((ms (ms z0 10 (-1)) 70 (-1)), 75, 75) 75 292701 646 [(0, pR (some G'.1))] []) : IV9 G' aK aV f l Q ((ms (ms z0 10 (-1)) 70 (-1)), 60, 60) 60 290662 520 [(0, pR (some G'.1))] [] := by
  refine j_aload_n dX5_init_520 0 rfl ?_
  refine j_sipush dX5_init_521 (by decide) ?_
  refine i_new (n := 312) 61 mr_83 rfl (fun _ => rfl) rfl zat_1 dX5_init_524 ⟨Nat.le_of_ble_eq_true rfl, Nat.le_of_ble_eq_true rfl⟩ (Nat.le_of_ble_eq_true rfl) ?_
  refine i_put 61 hG mf_83 (by decide) rfl rfl rfl dX5_init_526 ?_
  refine j_aload_n dX5_init_529 0 rfl ?_
  refine j_sipush dX5_init_530 (by decide) ?_
  refine i_new (n := 312) 62 mr_84 rfl (fun _ => rfl) rfl zat_1 dX5_init_533 ⟨Nat.le_of_ble_eq_true rfl, Nat.le_of_ble_eq_true rfl⟩ (Nat.le_of_ble_eq_true rfl) ?_
  refine i_put 62 hG mf_84 (by decide) rfl rfl rfl dX5_init_535 ?_
  refine j_aload_n dX5_init_538 0 rfl ?_
  refine j_sipush dX5_init_539 (by decide) ?_
  refine i_new (n := 312) 63 mr_85 rfl (fun _ => rfl) rfl zat_1 dX5_init_542 ⟨Nat.le_of_ble_eq_true rfl, Nat.le_of_ble_eq_true rfl⟩ (Nat.le_of_ble_eq_true rfl) ?_
  refine i_put 63 hG mf_85 (by decide) rfl rfl rfl dX5_init_544 ?_
  refine j_aload_n dX5_init_547 0 rfl ?_
  refine j_sipush dX5_init_548 (by decide) ?_
  refine i_new (n := 312) 64 mr_86 rfl (fun _ => rfl) rfl zat_1 dX5_init_551 ⟨Nat.le_of_ble_eq_true rfl, Nat.le_of_ble_eq_true rfl⟩ (Nat.le_of_ble_eq_true rfl) ?_
  refine i_put 64 hG mf_86 (by decide) rfl rfl rfl dX5_init_553 ?_
  refine j_aload_n dX5_init_556 0 rfl ?_
  refine j_bipush dX5_init_557 (by decide) ?_
  refine i_new (n := 41) 65 mr_88 rfl (fun _ => rfl) rfl zat_1 dX5_init_559 ⟨Nat.le_of_ble_eq_true rfl, Nat.le_of_ble_eq_true rfl⟩ (Nat.le_of_ble_eq_true rfl) ?_
  refine i_put 65 hG mf_88 (by decide) rfl rfl rfl dX5_init_561 ?_
  refine j_aload_n dX5_init_564 0 rfl ?_
  refine j_bipush dX5_init_565 (by decide) ?_
  refine i_new (n := 41) 66 mr_89 rfl (fun _ => rfl) rfl zat_1 dX5_init_567 ⟨Nat.le_of_ble_eq_true rfl, Nat.le_of_ble_eq_true rfl⟩ (Nat.le_of_ble_eq_true rfl) ?_
  refine i_put 66 hG mf_89 (by decide) rfl rfl rfl dX5_init_569 ?_
  refine j_aload_n dX5_init_572 0 rfl ?_
  refine j_bipush dX5_init_573 (by decide) ?_
  refine i_new (n := 41) 67 mr_90 rfl (fun _ => rfl) rfl zat_1 dX5_init_575 ⟨Nat.le_of_ble_eq_true rfl, Nat.le_of_ble_eq_true rfl⟩ (Nat.le_of_ble_eq_true rfl) ?_
  refine i_put 67 hG mf_90 (by decide) rfl rfl rfl dX5_init_577 ?_
  refine j_aload_n dX5_init_580 0 rfl ?_
  refine j_bipush dX5_init_581 (by decide) ?_
  refine i_new (n := 41) 68 mr_91 rfl (fun _ => rfl) rfl zat_1 dX5_init_583 ⟨Nat.le_of_ble_eq_true rfl, Nat.le_of_ble_eq_true rfl⟩ (Nat.le_of_ble_eq_true rfl) ?_
  refine i_put 68 hG mf_91 (by decide) rfl rfl rfl dX5_init_585 ?_
  refine j_aload_n dX5_init_588 0 rfl ?_
  refine j_bipush dX5_init_589 (by decide) ?_
  refine i_new (n := 41) 69 mr_92 rfl (fun _ => rfl) rfl zat_1 dX5_init_591 ⟨Nat.le_of_ble_eq_true rfl, Nat.le_of_ble_eq_true rfl⟩ (Nat.le_of_ble_eq_true rfl) ?_
  refine i_put 69 hG mf_92 (by decide) rfl rfl rfl dX5_init_593 ?_
  refine j_aload_n dX5_init_596 0 rfl ?_
  refine j_sipush dX5_init_597 (by decide) ?_
  refine i_new (n := 246) 70 mr_93 rfl (fun _ => rfl) rfl zat_1 dX5_init_600 ⟨Nat.le_of_ble_eq_true rfl, Nat.le_of_ble_eq_true rfl⟩ (Nat.le_of_ble_eq_true rfl) ?_
  refine i_put 70 hG mf_93 (by decide) rfl rfl rfl dX5_init_602 ?_
  refine j_aload_n dX5_init_605 0 rfl ?_
  refine j_sipush dX5_init_606 (by decide) ?_
  refine i_new (n := 246) 71 mr_94 rfl (fun _ => rfl) rfl zat_1 dX5_init_609 ⟨Nat.le_of_ble_eq_true rfl, Nat.le_of_ble_eq_true rfl⟩ (Nat.le_of_ble_eq_true rfl) ?_
  refine i_put 71 hG mf_94 (by decide) rfl rfl rfl dX5_init_611 ?_
  refine j_aload_n dX5_init_614 0 rfl ?_
  refine j_bipush dX5_init_615 (by decide) ?_
  refine i_new (n := 41) 72 mr_95 rfl (fun _ => rfl) rfl zat_4 dX5_init_617 ⟨Nat.le_of_ble_eq_true rfl, Nat.le_of_ble_eq_true rfl⟩ (Nat.le_of_ble_eq_true rfl) ?_
  refine i_put 72 hG mf_95 (by decide) rfl rfl rfl dX5_init_619 ?_
  refine j_aload_n dX5_init_622 0 rfl ?_
  refine j_bipush dX5_init_623 (by decide) ?_
  refine i_new (n := 41) 73 mr_96 rfl (fun _ => rfl) rfl zat_3 dX5_init_625 ⟨Nat.le_of_ble_eq_true rfl, Nat.le_of_ble_eq_true rfl⟩ (Nat.le_of_ble_eq_true rfl) ?_
  refine i_put 73 hG mf_96 (by decide) rfl rfl rfl dX5_init_627 ?_
  refine j_aload_n dX5_init_630 0 rfl ?_
  refine j_bipush dX5_init_631 (by decide) ?_
  refine i_new (n := 6) 74 mr_98 rfl (fun _ => rfl) rfl zat_1 dX5_init_633 ⟨Nat.le_of_ble_eq_true rfl, Nat.le_of_ble_eq_true rfl⟩ (Nat.le_of_ble_eq_true rfl) ?_
  refine i_put 74 hG mf_98 (by decide) rfl rfl rfl dX5_init_635 ?_
  refine j_aload_n dX5_init_638 0 rfl ?_
  refine j_bipush dX5_init_639 (by decide) ?_
  refine i_new (n := 6) 75 mr_99 rfl (fun _ => rfl) rfl zat_1 dX5_init_641 ⟨Nat.le_of_ble_eq_true rfl, Nat.le_of_ble_eq_true rfl⟩ (Nat.le_of_ble_eq_true rfl) ?_
  refine i_put 75 hG mf_99 (by decide) rfl rfl rfl dX5_init_643 ?_
  exact kk
theorem i_p5 (hG : GI G') (kk : IV9 G' aK aV f l Q ((ms (ms z0 10 (-1)) 70 (-1)), 87, 87) 87 299598 749 [(0, pR (some G'.1))] []) : IV9 G' aK aV f l Q ((ms (ms z0 10 (-1)) 70 (-1)), 75, 75) 75 292701 646 [(0, pR (some G'.1))] [] := by
  refine j_aload_n dX5_init_646 0 rfl ?_
  refine j_bipush dX5_init_647 (by decide) ?_
  refine i_new (n := 6) 76 mr_100 rfl (fun _ => rfl) rfl zat_1 dX5_init_649 ⟨Nat.le_of_ble_eq_true rfl, Nat.le_of_ble_eq_true rfl⟩ (Nat.le_of_ble_eq_true rfl) ?_
  refine i_put 76 hG mf_100 (by decide) rfl rfl rfl dX5_init_651 ?_
  refine j_aload_n dX5_init_654 0 rfl ?_
  refine j_sipush dX5_init_655 (by decide) ?_
  refine i_new (n := 400) 77 mr_103 rfl (fun _ => rfl) rfl zat_1 dX5_init_658 ⟨Nat.le_of_ble_eq_true rfl, Nat.le_of_ble_eq_true rfl⟩ (Nat.le_of_ble_eq_true rfl) ?_
  refine i_put 77 hG mf_103 (by decide) rfl rfl rfl dX5_init_660 ?_
  refine j_aload_n dX5_init_663 0 rfl ?_
  refine j_sipush dX5_init_664 (by decide) ?_
  refine i_new (n := 400) 78 mr_104 rfl (fun _ => rfl) rfl zat_1 dX5_init_667 ⟨Nat.le_of_ble_eq_true rfl, Nat.le_of_ble_eq_true rfl⟩ (Nat.le_of_ble_eq_true rfl) ?_
  refine i_put 78 hG mf_104 (by decide) rfl rfl rfl dX5_init_669 ?_
  refine j_aload_n dX5_init_672 0 rfl ?_
  refine j_sipush dX5_init_673 (by decide) ?_
  refine i_new (n := 400) 79 mr_105 rfl (fun _ => rfl) rfl zat_1 dX5_init_676 ⟨Nat.le_of_ble_eq_true rfl, Nat.le_of_ble_eq_true rfl⟩ (Nat.le_of_ble_eq_true rfl) ?_
  refine i_put 79 hG mf_105 (by decide) rfl rfl rfl dX5_init_678 ?_
  refine j_aload_n dX5_init_681 0 rfl ?_
  refine j_sipush dX5_init_682 (by decide) ?_
  refine i_new (n := 400) 80 mr_106 rfl (fun _ => rfl) rfl zat_1 dX5_init_685 ⟨Nat.le_of_ble_eq_true rfl, Nat.le_of_ble_eq_true rfl⟩ (Nat.le_of_ble_eq_true rfl) ?_
  refine i_put 80 hG mf_106 (by decide) rfl rfl rfl dX5_init_687 ?_
  refine j_aload_n dX5_init_690 0 rfl ?_
  refine j_bipush dX5_init_691 (by decide) ?_
  refine i_new (n := 41) 81 mr_107 rfl (fun _ => rfl) rfl zat_4 dX5_init_693 ⟨Nat.le_of_ble_eq_true rfl, Nat.le_of_ble_eq_true rfl⟩ (Nat.le_of_ble_eq_true rfl) ?_
  refine i_put 81 hG mf_107 (by decide) rfl rfl rfl dX5_init_695 ?_
  refine j_aload_n dX5_init_698 0 rfl ?_
  refine j_bipush dX5_init_699 (by decide) ?_
  refine i_new (n := 41) 82 mr_108 rfl (fun _ => rfl) rfl zat_4 dX5_init_701 ⟨Nat.le_of_ble_eq_true rfl, Nat.le_of_ble_eq_true rfl⟩ (Nat.le_of_ble_eq_true rfl) ?_
  refine i_put 82 hG mf_108 (by decide) rfl rfl rfl dX5_init_703 ?_
  refine j_aload_n dX5_init_706 0 rfl ?_
  refine j_sipush dX5_init_707 (by decide) ?_
  refine i_new (n := 401) 83 mr_109 rfl (fun _ => rfl) rfl zat_1 dX5_init_710 ⟨Nat.le_of_ble_eq_true rfl, Nat.le_of_ble_eq_true rfl⟩ (Nat.le_of_ble_eq_true rfl) ?_
  refine i_put 83 hG mf_109 (by decide) rfl rfl rfl dX5_init_712 ?_
  refine j_aload_n dX5_init_715 0 rfl ?_
  refine j_iconst dX5_init_716 ?_
  refine i_new (n := 5) 84 mr_110 rfl (fun _ => rfl) rfl zat_1 dX5_init_717 ⟨Nat.le_of_ble_eq_true rfl, Nat.le_of_ble_eq_true rfl⟩ (Nat.le_of_ble_eq_true rfl) ?_
  refine i_put 84 hG mf_110 (by decide) rfl rfl rfl dX5_init_719 ?_
  refine j_aload_n dX5_init_722 0 rfl ?_
  refine j_sipush dX5_init_723 (by decide) ?_
  refine i_new (n := 1601) 85 mr_112 rfl (fun _ => rfl) rfl zat_4 dX5_init_726 ⟨Nat.le_of_ble_eq_true rfl, Nat.le_of_ble_eq_true rfl⟩ (Nat.le_of_ble_eq_true rfl) ?_
  refine i_put 85 hG mf_112 (by decide) rfl rfl rfl dX5_init_728 ?_
  refine j_aload_n dX5_init_731 0 rfl ?_
  refine j_sipush dX5_init_732 (by decide) ?_
  refine i_new (n := 1601) 86 mr_113 rfl (fun _ => rfl) rfl zat_4 dX5_init_735 ⟨Nat.le_of_ble_eq_true rfl, Nat.le_of_ble_eq_true rfl⟩ (Nat.le_of_ble_eq_true rfl) ?_
  refine i_put 86 hG mf_113 (by decide) rfl rfl rfl dX5_init_737 ?_
  refine j_aload_n dX5_init_740 0 rfl ?_
  refine j_sipush dX5_init_741 (by decide) ?_
  refine i_new (n := 1601) 87 mr_114 rfl (fun _ => rfl) rfl zat_4 dX5_init_744 ⟨Nat.le_of_ble_eq_true rfl, Nat.le_of_ble_eq_true rfl⟩ (Nat.le_of_ble_eq_true rfl) ?_
  refine i_put 87 hG mf_114 (by decide) rfl rfl rfl dX5_init_746 ?_
  exact kk
def u9 : Mu := (ms (ms z0 10 (-1)) 70 (-1))
/-- the word under way, how many words are done, what is stored, before the character p -/
def kAc : Nat → Int
  | 0 => 0
  | p + 1 => if sBi.getD p 0 = 32 then 0 else or64 (shl64 (kAc p) 7) (w32 (sBi.getD p 0))
def kNo : Nat → Nat
  | 0 => 0
  | p + 1 => if sBi.getD p 0 = 32 then kNo p + 1 else kNo p
def kKy : Nat → Mu
  | 0 => u9
  | p + 1 => if sBi.getD p 0 = 32 then ma (kKy p) 0 (kNo p) (kAc p) else kKy p
set_option maxRecDepth 100000 in
theorem kNo_b : ∀ p, p < 149 → kNo p < 29 ∧ (sBi.getD p 0 = 32 → p < 148 → kNo p + 1 < 29) ∧ (p = 148 → sBi.getD p 0 = 32 ∧ kNo p + 1 = 29) := by decide +kernel
abbrev lv9 (G' : MG) (p j : Nat) (v : Int) : List (Nat × PV) := [(3, pL v), (2, pI (j : Int)), (1, pI (p : Int)), (0, pR (some G'.1))]
theorem i_inner {p : Nat} (hp : p < 149) (hG : GI G') (hend : IV9 G' aK aV f l Q (kKy 149, 87, 87) 87 299598 809 [(0, pR (some G'.1))] []) (hn : p + 1 < 149 → IV9 G' aK aV f l Q (kKy (p + 1), 87, 87) 87 299598 761 (lv9 G' (p + 1) (kNo (p + 1)) (kAc (p + 1))) []) : IV9 G' aK aV f l Q (kKy p, 87, 87) 87 299598 761 (lv9 G' p (kNo p) (kAc p)) [] := by
  obtain ⟨b1, b2, b3⟩ := kNo_b p hp
  have hch := sBi_b p hp
  have wp : w32 (p : Int) = p := w32_id (by omega) (by omega)
  have wj : w32 ((kNo p : Nat) : Int) = (kNo p : Nat) := w32_id (by omega) (by omega)
  have eA : kAc (p + 1) = if sBi.getD p 0 = 32 then 0 else or64 (shl64 (kAc p) 7) (w32 (sBi.getD p 0)) := rfl
  have eN : kNo (p + 1) = if sBi.getD p 0 = 32 then kNo p + 1 else kNo p := rfl
  have eK : kKy (p + 1) = if sBi.getD p 0 = 32 then ma (kKy p) 0 (kNo p) (kAc p) else kKy p := rfl
  have ep : ((p : Nat) : Int) + 1 = ((p + 1 : Nat) : Int) := by omega
  refine i_ldc dX5_init_761 ?_
  refine j_iload_n dX5_init_764 2 rfl ?_
  refine i_chr p hp wp (Nat.le_of_ble_eq_true rfl) dX5_init_765 ⟨Nat.le_of_ble_eq_true rfl, Nat.le_of_ble_eq_true rfl⟩ ?_
  refine j_bipush dX5_init_768 (by decide) ?_
  refine j_icmp_eq (sBi.getD p 0) 32 (w32_id (by omega) (by omega)) rfl 793 dX5_init_770 (by decide) (fun h32 => ?_) (fun h32 => ?_)
  · rw [if_pos h32] at eA eN eK
    refine j_aload_n dX5_init_793 3 rfl ?_
    refine i_geta mf_0 (by decide) dX5_init_794 ?_
    refine j_iload_n dX5_init_797 1 rfl ?_
    refine j_lload_n dX5_init_798 0 rfl ?_
    refine i_last hG mr_0 (by decide) (w1 := ma (kKy p) 0 (kNo p) (kAc p)) (by unfold mast; rw [if_pos (by rw [wj]; omega), wj]; rfl) dX5_init_799 ?_
    refine j_iinc dX5_init_800 2 rfl [(1, pI ((p + 1 : Nat) : Int)), (3, pL (kAc p)), (2, pI ((kNo p : Nat) : Int)), (0, pR (some G'.1))] (Nat.le_of_ble_eq_true rfl) (by rw [ep]; rfl) ?_
    refine j_iinc dX5_init_803 2 rfl [(2, pI ((kNo p + 1 : Nat) : Int)), (1, pI ((p + 1 : Nat) : Int)), (3, pL (kAc p)), (0, pR (some G'.1))] (Nat.le_of_ble_eq_true rfl) (by rw [show ((kNo p : Nat) : Int) + 1 = ((kNo p + 1 : Nat) : Int) by omega]; rfl) ?_
    refine j_goto 753 dX5_init_806 (by decide) ?_
    refine j_iload_n dX5_init_753 0 rfl ?_
    refine j_bipush dX5_init_754 (by decide) ?_
    refine j_icmp_ge ((kNo p + 1 : Nat) : Int) 29 (w32_id (by omega) (by omega)) rfl 809 dX5_init_756 (by decide) (fun h => ?_) (fun h => ?_)
    · have h148 : p = 148 := by
        by_cases hq : p < 148
        · have := b2 h32 hq; omega
        · omega
      subst h148
      rw [← eK]
      exact i_pick [3] rfl hend
    · have hlt : p + 1 < 149 := by
        by_cases hq : p < 148
        · omega
        · have := (b3 (by omega)).2; omega
      refine j_lconst (z := 0) dX5_init_759 rfl ?_
      refine j_lstore_n dX5_init_760 [(3, pL 0), (2, pI ((kNo p + 1 : Nat) : Int)), (1, pI ((p + 1 : Nat) : Int)), (0, pR (some G'.1))] (Nat.le_of_ble_eq_true rfl) rfl ?_
      have h9 := hn hlt
      rw [eA, eN, eK] at h9
      exact h9
  · rw [if_neg h32] at eA eN eK
    have hlt : p + 1 < 149 := by
      by_cases hq : p < 148
      · omega
      · exact absurd (b3 (by omega)).1 h32
    refine j_lload_n dX5_init_773 0 rfl ?_
    refine j_bipush dX5_init_774 (by decide) ?_
    refine j_lshl dX5_init_776 ?_
    refine i_ldc dX5_init_777 ?_
    refine j_iload_n dX5_init_780 2 rfl ?_
    refine i_chr p hp wp (Nat.le_of_ble_eq_true rfl) dX5_init_781 ⟨Nat.le_of_ble_eq_true rfl, Nat.le_of_ble_eq_true rfl⟩ ?_
    refine j_i2l dX5_init_784 ?_
    refine j_lor dX5_init_785 ?_
    refine j_lstore_n dX5_init_786 [(3, pL (or64 (shl64 (kAc p) 7) (w32 (sBi.getD p 0)))), (2, pI ((kNo p : Nat) : Int)), (1, pI ((p : Nat) : Int)), (0, pR (some G'.1))] (Nat.le_of_ble_eq_true rfl) rfl ?_
    refine j_iinc dX5_init_787 2 rfl [(1, pI ((p + 1 : Nat) : Int)), (3, pL (or64 (shl64 (kAc p) 7) (w32 (sBi.getD p 0)))), (2, pI ((kNo p : Nat) : Int)), (0, pR (some G'.1))] (Nat.le_of_ble_eq_true rfl) (by rw [ep]; rfl) ?_
    refine j_goto 761 dX5_init_790 (by decide) ?_
    refine i_pick [1, 2, 0, 3] rfl ?_
    have h9 := hn hlt
    rw [eA, eN, eK] at h9
    exact h9
theorem i_loop (hG : GI G') (hend : IV9 G' aK aV f l Q (kKy 149, 87, 87) 87 299598 809 [(0, pR (some G'.1))] []) : ∀ n p, p < 149 → 149 ≤ p + n → IV9 G' aK aV f l Q (kKy p, 87, 87) 87 299598 761 (lv9 G' p (kNo p) (kAc p)) [] := by
  intro n
  induction n with
  | zero => intro p h1 h2; omega
  | succ n ih => exact fun p h1 h2 => i_inner h1 hG hend (fun h3 => ih (p + 1) h3 (by omega))
/-- the twin, as made -/
def mE : Mu := ms (kKy 149) 101 (-1)
theorem rk_lt : ∀ k, k < 116 → mkd (tyX5 k) ≠ 0 → rk k < 87 := by decide +kernel
theorem bI_bM {u : Mu} {U : State} {H : Heap} (hG : GI G') (h : bI G' (u, 87, 87) U H) : bM G' u U H := by
  obtain ⟨h1, h2, h3, h4⟩ := h
  refine ⟨h1, h2.to (fun k hk => ?_), fun k hk => ?_, fun k hk => ⟨by rw [hG k hk]; exact ne_1 _ _, fun j hj e => rk_inj hj hk (eq_1 (by rw [hG j hj, hG k hk] at e; exact e))⟩⟩
  · unfold iV
    by_cases h0 : mkd (tyX5 k) ≠ 0
    · rw [if_neg (fun q => by have h9 := q.2; have h8 := rk_lt k hk h0; simp only at h9; omega)]
    · rw [if_neg (fun q => h0 q.1)]
  · rw [hG k hk]
    exact h3 k hk (rk_lt k hk.1 hk.2)
theorem c5_init (hG : GI G') : Met l yX5_init (ws_ yX5_init D5_init.2.1 D5_init.2.2.1 D5_init.2.2.2.1) (jroom D5_init 87 299598) (va_Pc ([pR (some G'.1)].map mv) (fun U => kS G' aK aV f U ∧ bI G' (z0, 0, 0) U U.heap)) (kQ none mE (bM G') (aM G')) 87 299598 (aM G') := by
  refine j_metQ (lv0 := [(0, pR (some G'.1))]) ⟨pl_X5, rfl, rfl, (Nat.le_of_ble_eq_true rfl), rfl⟩ ?_
  refine j_aload_n dX5_init_0 0 rfl ?_
  refine i_objInit dX5_init_1 ?_

  refine i_p0 hG ?_
  refine i_p1 hG ?_
  refine i_p2 hG ?_
  refine i_p3 hG ?_
  refine i_p4 hG ?_
  refine i_p5 hG ?_
  refine j_iconst dX5_init_749 ?_
  refine j_istore_n dX5_init_750 [(1, pI 0), (0, pR (some G'.1))] (Nat.le_of_ble_eq_true rfl) rfl ?_
  refine j_iconst dX5_init_751 ?_
  refine j_istore_n dX5_init_752 [(2, pI 0), (1, pI 0), (0, pR (some G'.1))] (Nat.le_of_ble_eq_true rfl) rfl ?_
  refine j_iload_n dX5_init_753 0 rfl ?_
  refine j_bipush dX5_init_754 (by decide) ?_
  refine j_icmp_ge 0 29 rfl rfl 809 dX5_init_756 (by decide) (fun h => absurd h (by decide)) (fun _ => ?_)
  refine j_lconst (z := 0) dX5_init_759 rfl ?_
  refine j_lstore_n dX5_init_760 [(3, pL 0), (2, pI 0), (1, pI 0), (0, pR (some G'.1))] (Nat.le_of_ble_eq_true rfl) rfl ?_
  refine i_loop hG ?_ 149 0 (by decide) (by decide)
  refine j_aload_n dX5_init_809 0 rfl ?_
  refine j_iconst dX5_init_810 ?_
  refine i_puts mf_101 mfw_101 dX5_init_811 ?_
  intro p e s m below meth c9 H locs ls X hr hlk hn hK hB hS hl
  exact W.vret X.1 X.2.1 hr (fun t ht hW => ⟨⟨rfl, bM_mv G' mE s t t.heap hW.alike (by rw [ht]; exact bI_bM hG hB)⟩, hS.F ht⟩) hS.2.2 dX5_init_814 hlk
end

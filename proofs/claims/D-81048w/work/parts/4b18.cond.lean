/-! THE READER: ands, ors; a whole condition -/
theorem new16 {G : CG} {L : Ly} {u : Sg} {m : Mu} {r lv : Nat} (h : R7 G L u m r) (hSt : St G u) (hlv : lv ≤ 1) : ∃ uc bE, f15_init G (some (zN u)) lv (znew u 16 0) = some (uc, 1, 3) ∧ fr7 r u uc ∧ (∀ j, zI uc r j = zI u r j) ∧ zT uc (zN u) = 16 ∧ zR uc (zN u) 601 = some (zN u + 1) ∧ zI uc (zN u) 600 = (lv : Int) ∧ zN uc = zN u + 2 ∧ LA uc (zN u + 1) bE 0 ∧ LW G uc (zN u + 1) bE ∧ zL uc bE = 0 ∧ bE < G0 G := by
  obtain ⟨bE, e1, e2, e3, e4, e5⟩ := hSt.2.1
  have hr := h.2.1.2.1
  have hG := h.2.1.1
  obtain ⟨ua, hua⟩ : ∃ ua, ua = znew u 16 0 := ⟨_, rfl⟩
  have Na : zN ua = zN u + 1 := by rw [hua]; rfl
  obtain ⟨ub, hub⟩ : ∃ ub, ub = zsR (zsI (znew ua 6 0) (zN u + 1) 200 0) (zN u + 1) 201 (some bE) := ⟨_, rfl⟩
  obtain ⟨uc, huc⟩ : ∃ uc, uc = zsI (zsR ub (zN u) 601 (some (zN u + 1))) (zN u) 600 (lv : Int) := ⟨_, rfl⟩
  have Tb : zT ub (zN u) = 16 := by rw [hub]; show zT (znew ua 6 0) (zN u) = 16; rw [znew_T, if_neg (by omega), hua, znew_T, if_pos rfl]
  have Tl : zT uc (zN u + 1) = 6 := by rw [huc]; show zT ub (zN u + 1) = 6; rw [hub]; show zT (znew ua 6 0) (zN u + 1) = 6; rw [znew_T, if_pos Na.symm]
  have fra : fr7 r u ua := by rw [hua]; exact fr7_znew fr7_rf hr
  have frb : fr7 r u ub := by rw [hub]; exact fr7_zsR (fr7_zsI (fr7_znew fra (by omega)) (by omega) (by omega)) (by omega) (by omega)
  have frc : fr7 r u uc := by rw [huc]; exact fr7_zsI (fr7_zsR frb (Nat.le_refl _) (by omega)) (Nat.le_refl _) (by omega)
  have sE := frc.2.1 bE (by omega) (by have := h.1.1.2.1; omega)
  have Nc : zN uc = zN u + 2 := by rw [huc]; show zN ub = _; rw [hub]; show zN ua + 1 = _; omega
  refine ⟨uc, bE, ?_, frc, fun j => ?_, ?_, ?_, ?_, Nc, ⟨Tl, ?_, ?_, by rw [sE.1]; exact e3, Nat.zero_le _, by rw [sE.2.1, e4]; omega, by omega, by omega, fun i x hx => ?_⟩, ⟨by show G0 G ≤ _; omega, fun _ => e1, fun q => ?_⟩, by rw [sE.2.1]; exact e4, e2⟩
  · unfold f15_init f10_init
    rw [Option.bind_some, Option.bind_some, Option.bind_some, ← hua]
    show ((fJ2_init G (some (zN ua)) (znew ua 6 0)).bind _).map _ = _
    have h01 : w32 (lv : Int) = 0 ∨ w32 (lv : Int) = 1 := by
      have hlv2 : lv = 0 ∨ lv = 1 := by omega
      rcases hlv2 with rfl | rfl <;> decide
    rw [Na, J_init (by rw [znew_T, if_pos Na.symm]) (by show G0 G ≤ _; omega) e1, Option.bind_some, ← hub, pfR_e Tb hG, Option.bind_some, if_pos h01, pfI_e (show zT (zsR ub (zN u) 601 (some (zN u + 1))) (zN u) = 16 from Tb) hG, Option.bind_some, ← huc]
    rfl
  · rw [huc, zsI_I, if_neg (fun q => by have := q.1; omega), zsR_I, hub, zsR_I, zsI_I, if_neg (fun q => by have := q.1; omega), znew_I, if_neg (by omega), hua, znew_I, if_neg (by omega)]
  · rw [huc]; exact Tb
  · rw [huc]; show zR (zsR ub (zN u) 601 (some (zN u + 1))) (zN u) 601 = _; rw [zsR_R, if_pos ⟨rfl, rfl⟩]
  · rw [huc, zsI_I, if_pos ⟨rfl, rfl⟩]
  · rw [huc]; show zR (zsR ub (zN u) 601 (some (zN u + 1))) (zN u + 1) 201 = _; rw [zsR_R, if_neg (fun q => by have := q.1; omega), hub, zsR_R, if_pos ⟨rfl, rfl⟩]
  · rw [huc, zsI_I, if_neg (fun q => by have := q.1; omega), zsR_I, hub, zsR_I, zsI_I, if_neg (fun q => absurd q.2 (by decide)), znew_I, if_pos Na.symm]; rfl
  · rw [sE.2.2.2.2.2, e5 i] at hx; cases hx
  · rw [sE.2.1, e4] at q; omega
theorem cw0 : cwL 0 = 6385252 := by decide
theorem cw1 : cwL 1 = 28530 := by decide
theorem many7 {G : CG} {L : Ly} {r a w : Nat} {W : Wv} {lv d dp : Nat} {S : List Int} {t : Sg} {m : Mu} {rc : RC7} {X : Sg → Option (((Nat ⊕ Option Nat) × Sg) × Nat × Nat)} (hlv : lv ≤ 1) (hS : S.head? ≠ some 2 ∧ S.head? ≠ some 3 ∧ (lv = 1 → S.head? ≠ some 4)) (h : PRE G L r a w W t m S dp) (hX : ∀ t m S', S' = S ∨ S' = opL lv :: S → PRE G L r a w W t m S' dp → OUT G L r W lv d t m S' (X t)) (hX0 : lv = 0 → ∀ u, rc 2 (some r) 0 u = X u) (hX1 : lv = 1 → ∀ u, rc 1 (some r) 0 u = X u) : OUT G L r W (lv + 1) (d + 1) t m S (f7_many G rc (some r) lv t) := by
  obtain ⟨g5, g46, g46', gS, g49, gSum⟩ := PRE_5 h
  obtain ⟨hCX, hPM, hJ, hd1, hd2, hd3⟩ := id h
  obtain ⟨hs1, hs2⟩ := strip_id hS.1
  have hR := hCX.1
  have hr0 : r < zN t ∧ L.1 3 < zN t ∧ L.1 100 < zN t ∧ L.1 101 < zN t := ⟨hR.2.1.2.1, hR.2.1.2.2.1, hR.2.1.2.2.2.1, hR.2.1.2.2.2.2.1⟩
  have eM : f7_many G rc (some r) lv t = bdU (X t) fun q2 => tel q2.1 (fun e3 => xth e3 q2.2) fun x4 => f7_many_b30 G rc (some r) lv x4 (cwL lv) q2.2 := by
    unfold f7_many f7_many_b16
    rw [ztg_e hR.1.1.1, Option.bind_some, Option.bind_some]
    have hlv2 : lv = 0 ∨ lv = 1 := by omega
    rcases hlv2 with rfl | rfl
    · rw [if_pos (by decide), hX0 rfl, cw0]
      simp only [if_pos (show w32 ((0 : Nat) : Int) = 0 by decide)]
    · rw [if_neg (by decide), hX1 rfl, cw1]
      simp only [if_neg (show ¬ w32 ((1 : Nat) : Int) = 0 by decide)]
  rw [eM]
  rcases hX t m S (Or.inl rfl) h with ⟨c, t', cc, nn, m', k, pend, ns, es, x1, x2, ⟨x3, x4, x5, x6⟩, hMD, x7, x8, x9, x10⟩ | ⟨e', t', cc, nn, K, P, m', k, x1, x2, x3, x4, x5⟩ | ⟨c, t', cc, nn, m', md, k, x1, ⟨x2, x3, x4, x5, x6, x7⟩, x8, x9, x10, x11, x12, x13⟩
  · obtain ⟨⟨w1, w2, w3⟩, ⟨w4, w5, w6⟩, ⟨w7, w8⟩, ⟨w9, w10⟩, w11⟩ := id hMD
    rw [hs2] at w7
    have hes : es = [] := List.length_eq_zero_iff.mp w7
    subst hes
    obtain ⟨f1, f2, f3, f4⟩ := x10
    have hoP : okP (lv + 1) pend := ⟨x7.1, fun h1 z hz => x7.2.1 (by omega) z hz, fun q => absurd q (by omega)⟩
    rw [x1, te_okc]
    dsimp only
    have eB : f7_many_b30 G rc (some r) lv (some c) (cwL lv) t' = if m'.1 4 = 4 ∧ m'.1 7 = woL lv then (bdU (zNew t' 16 2) fun q3 => bdU (f15_init G (some q3.1) lv q3.2) fun q4 => (gfR q4 16 601 (some q3.1)).bind fun x5 => (ztg q4 6 x5).bind fun b6 => bdU (fJ2_add G (some b6) (some c) q4) fun q7 => bdU (f7_many_l63 G rc (some r) lv (cwL lv) (some q3.1) NN q7.2) (Sum.elim (fun e9 => xth e9.1 e9.2) (fun q8 => some ((.inr (some q3.1), q8), 0, 0)))) else some ((.inr (some c), t'), 0, 0) := by
      unfold f7_many_b30
      rw [ztg_e x3.1.1.1, Option.bind_some, c_is x3 (j := 22 - lv) (by omega) rfl, Option.bind_some, w32_b2i]
      by_cases hw : m'.1 4 = 4 ∧ m'.1 7 = woL lv
      · rw [decide_eq_true hw, if_neg (by decide), if_pos hw]
      · rw [decide_eq_false hw, if_pos (by rfl), if_neg hw]
    rw [eB]
    by_cases hw : m'.1 4 = 4 ∧ m'.1 7 = woL lv
    · rw [if_pos hw]
      have C1 : CX G L t' m' r a w W := CX_k hCX x3 x6 x4 w3
      obtain ⟨uc, bE, v1, v2, v3, v4, v5, v6, v7, v8, v9, v10, v11⟩ := new16 (lv := lv) x3 C1.2.2.2.2 hlv
      have Rc : R7 G L uc m' r := R7_k x3 v2 (fun j _ => v3 j)
      have hCc := CA_OT (x8 (pend.map fun v => ((v, 0, 0, 0) : Nd)) (by rw [List.map_map]; exact List.map_id _))
      have hN4 := x4.1.1
      have hcN : c < zN t' := hCc.2.2.1
      have sc := v2.2.1 c hcN (by have := hCc.2.1; omega)
      obtain ⟨b', t2, ca, na, r1, r2, r3, r4, r5, r6, r7, r8, r9, r10, r11, r12, r13⟩ := add7 (x := zN t') (c := c) (lv := lv) (d := d) (W := W) Rc hr0 rfl ⟨v4, by omega⟩ v8 v9 (by omega) (Or.inl rfl) (fun _ => v10) (by omega) ⟨by rw [sc.1]; exact hCc.1, by omega⟩
      have hN9 := r9.1
      have frtc : fr7 r t uc := fr7_tr x4 v2
      have frt2 : fr7 r t t2 := fr7_add frtc hr0.1 (fun q hq => r10 q hq) r9
      have C2 : CX G L t2 m' r a w W := CX_k hCX r13 x6 frt2 w3
      have I2 : zI t2 r 287 = (dp : Int) := by rw [(r10 r hr0.1).2.2.1, v3, x5]; exact hd1
      have newF : ∀ q, FN (zN t) W t' q → (FN (zN t) W t2 q ∧ q ≠ zN t' + 1 ∧ q ≠ b') ∧ sam t' t2 q := fun q hq => by
        obtain ⟨z1, z2, z3⟩ := hq
        have s1 := v2.2.1 q z2 (by omega)
        obtain ⟨s2, s3⟩ := r12 q (by omega) (by omega) (by have := hR.2.1.1; omega)
        have s4 := sam_tr s1 s2
        exact ⟨⟨⟨z1, by omega, by rw [s4.1, s4.2.2.1]; exact z3⟩, by omega, s3⟩, s4⟩
      have LI2 : LI G W (zN t) lv d t2 (zN t') (zN t' + 1) b' 1 (fun _ => c) pend ns := by
        refine ⟨⟨by rw [r11.1]; exact v4, by rw [r11.2.2.2.1]; exact v5, by rw [r11.2.2.1]; exact v6, hN4, by omega⟩, ⟨r4, r5, by omega, r6, Nat.le_refl _⟩, fun i hi => ?_, fun qz hqz => ⟨fun _ => ns ++ qz, fun _ => (opL lv, 0, 0, 0), fun i hi => ?_, fun _ _ => rfl, rfl⟩⟩
        · rw [show i = 0 by omega]; exact r8
        · exact CA_sam newF (gro_tr v2.1 r9) _ _ _ (x8 qz hqz)
      have h5p : 0 ≤ m'.1 5 := x3.2.2.1.2.2.1
      have eAll : ∀ {y : ((Nat × Sg) ⊕ Sg)} {z : (Nat ⊕ Option Nat) × Sg} {cy ny : Nat}, f7_many_l63 G rc (some r) lv (cwL lv) (some (zN t')) NN t2 = some (y, cy, ny) → (Sum.elim (fun e9 => (xth e9.1 e9.2 : Option (((Nat ⊕ Option Nat) × Sg) × Nat × Nat))) (fun q8 => some ((.inr (some (zN t')), q8), 0, 0)) y) = some (z, 0, 0) → (bdU (zNew t' 16 2) fun q3 => bdU (f15_init G (some q3.1) lv q3.2) fun q4 => (gfR q4 16 601 (some q3.1)).bind fun x5 => (ztg q4 6 x5).bind fun b6 => bdU (fJ2_add G (some b6) (some c) q4) fun q7 => bdU (f7_many_l63 G rc (some r) lv (cwL lv) (some q3.1) NN q7.2) (Sum.elim (fun e9 => xth e9.1 e9.2) (fun q8 => some ((.inr (some q3.1), q8), 0, 0)))) = some (z, 0 + cy + ca + 1 + 1, 0 + ny + na + 3 + 2) := fun {y z cy ny} hy hz => by
        show (bdU (f15_init G (some (zN t')) lv (znew t' 16 0)) _).map _ = _
        rw [v1, bdU_e, gfR_v v4 v5, Option.bind_some, ztg_e v8.1, Option.bind_some, r1, bdU_e]
        dsimp only
        rw [hy, bdU_e, hz]
        rfl
      rcases loop7 (x := zN t') (rc := rc) (X := X) hlv hS hd3 hr0 hCX hd2 g46 (fun t m hp => hX t m _ (Or.inr rfl) hp) hX0 hX1 NN t2 m' (zN t' + 1) b' 1 (fun _ => c) pend ns LI2 ⟨C2, frt2, I2⟩ hMD hoP x9 (by omega) (NN_gt (by omega)) with ⟨u', c2, n2', m'', k2, lz, bz, nz', elz, pz, nsz, s1, s2, s3, ⟨s4, s4b, s4c⟩, s5, s6, s7, s8, s9⟩ | ⟨e', u', c2, n2', K, P, m'', k2, s1, s2, s3, s4, s5⟩ | ⟨u', c2, n2', m'', md, k2, s1, ⟨s2a, s2b, s2c, s2d, s2e, s2f⟩, s3, s4, s5, s6, s7, s8⟩
      · left
        rw [eAll s1 rfl]
        have hgt : m'.1 5 < m''.1 5 ∧ (k2 : Int) ≤ m''.1 5 - m'.1 5 ∧ (c2 : Int) + 20 ≤ 20 * (m''.1 5 - m'.1 5) ∧ (n2' : Int) + 300 ≤ 600 * (m''.1 5 - m'.1 5) := by
          rcases s9 with ⟨q, -⟩ | s9
          · exfalso
            rw [q] at s7
            have hlv2 : lv = 0 ∨ lv = 1 := by omega
            rcases hlv2 with rfl | rfl
            · exact s7.1 (by decide) hw
            · exact s7.2 (by decide) hw
          · exact s9
        refine ⟨zN t', u', 0 + c2 + ca + 1 + 1 + cc, 0 + n2' + na + 3 + 2 + nn, m'', k2 + k, pz, nsz, [], rfl, fun n => ?_, ⟨s4.1, s4b, by rw [s4c, hd1], s4.2.1⟩, s5, s6, LI_CA hlv s8 s3, s7, ?_⟩
        · rw [show n + (k2 + k) = (n + k2) + k by omega, x2, s2]
        · unfold CST; omega
      · right; left
        have hle := TH_K s2
        rw [eAll (z := (.inl e', u')) s1 (by show (xth e' u' : Option (((Nat ⊕ Option Nat) × Sg) × Nat × Nat)) = _; unfold xth; rw [if_pos s2.1])]
        refine ⟨e', u', 0 + c2 + ca + 1 + 1 + cc, 0 + n2' + na + 3 + 2 + nn, K, P, m'', k2 + k, rfl, TH7_tr fr7_rf (by omega) s2 (by omega) (by omega), fun n => ?_, s4, by omega⟩
        rw [show n + (k2 + k) = (n + k2) + k by omega, TC_st x2]; exact s3 n
      · right; right
        rw [eAll s1 rfl]
        refine ⟨zN t', u', 0 + c2 + ca + 1 + 1 + cc, 0 + n2' + na + 3 + 2 + nn, m'', md, k2 + k, rfl, ⟨s2a, s2b, s2c, by rw [s2d, hd1], by rw [s2e]; decide, s2f⟩, fun n => ?_, s4, by omega, by omega, by omega, by omega⟩
        rw [show n + (k2 + k) = (n + k2) + k by omega, TC_st x2]; exact s3 n
    · left
      rw [if_neg hw]
      refine ⟨c, t', 0 + cc, 0 + nn, m', k, pend, ns, [], rfl, x2, ⟨x3, x4, x5, x6⟩, hMD, hoP, fun qs hq => CA_up _ _ _ (x8 qs hq), ?_, by unfold CST; omega⟩
      have hlv2 : lv = 0 ∨ lv = 1 := by omega
      rcases hlv2 with rfl | rfl
      · exact ⟨fun _ => hw, fun q => absurd q (by decide)⟩
      · exact ⟨fun _ => x9.1 (by decide), fun _ => hw⟩
  · right; left
    exact ⟨e', t', cc, nn, K, P, m', k, by rw [x1, xt_tel x2.1], x2, x3, x4, x5⟩
  · right; right
    rw [x1, te_okc]
    dsimp only
    unfold f7_many_b30
    rw [ztg_e x2.1.1.1, Option.bind_some, c_is x2 (j := 22 - lv) (by omega) rfl, Option.bind_some, w32_b2i, decide_eq_false (by have := x3.1; omega), if_pos (by rfl)]
    exact ⟨c, t', 0 + cc, 0 + nn, m', md, k, rfl, ⟨x2, x3, x4, x5, x6, x7⟩, x8, x9, x10, x11, by omega, by omega⟩

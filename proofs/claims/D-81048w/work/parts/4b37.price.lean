/-! THE READER: a price row, whole -/
theorem price_b {G : CG} {L : Ly} {r a N0 n kd : Nat} {κ : Nat → Nat} {t : Sg} {m : Mu} {W : Wv} (h : IX G L r a N0 κ t m W) (h4 : m.1 4 = 4) (hkd : kd < 5) (hn : n = nP W) (hn24 : n < 24) (htm : kd = 1 → tmB W n ≤ 2) : ITM G L r a N0 t m (f7_priceRow_b44 G (some r) kd t) (m5_readPrice_b86 (15 + (kd : Int)) n m) := by
  obtain ⟨⟨hR, hc, h287, h286⟩, hWB, hCV, ⟨h51, h46, hJ⟩, hSt, hN⟩ := id h
  have b27 : W 27 0 = (nP W : Int) := hWB.2.1.2.2.2.2.2.1
  have e27 : m.2 27 0 = (n : Int) := by
    have : slc m 0 27 0 = (n : Int) := by rw [hWB.2.1.1, b27, hn]
    exact this
  -- the bounds of the number
  obtain ⟨lo, hi, hlo, hlo2, hhi, eC, eM⟩ : ∃ lo hi : Int, (lo = if kd = 3 then 1 else 0) ∧ (0 ≤ lo ∧ lo ≤ 1) ∧ (1 ≤ hi ∧ hi ≤ 9999999) ∧ (f7_priceRow_b44 G (some r) kd t = bdU (f7_next G (some r) t) fun q2 => tel q2.1 (fun e3 => xth e3 q2.2) fun _ => f7_priceRow_b84 G (some r) kd (some r) lo hi q2.2) ∧ (m5_readPrice_b86 (15 + (kd : Int)) n m = (m5_next m).bind fun u1 => (mast u1 28 336 n (15 + (kd : Int))).bind fun u2 => (m5_wantsNumber lo hi u2).bind fun q6 => m5_readPrice_b144 (15 + (kd : Int)) n n q6.1 q6.2) := by
    unfold f7_priceRow_b44 m5_readPrice_b86 f7_priceRow_b59
    rw [ztg_e hR.1.1.1, Option.bind_some, w32_n (by omega), w32_id (x := 15 + (kd : Int)) (by omega) (by omega)]
    by_cases z1 : kd = 1
    · subst z1; exact ⟨0, 3000, by decide, by omega, by omega, rfl, rfl⟩
    · by_cases z3 : kd = 3
      · subst z3; exact ⟨1, 100000, by decide, by omega, by omega, rfl, rfl⟩
      · have hz : kd = 0 ∨ kd = 2 ∨ kd = 4 := by omega
        rcases hz with rfl | rfl | rfl <;> exact ⟨0, 9999999, by decide, by omega, by omega, rfl, rfl⟩
  rw [eC, eM]
  obtain ⟨m1, n1, n2, n3⟩ := next8 hR (by omega) (by omega)
  rw [n1, Option.bind_some, mast_e n rfl (by omega) (by omega), Option.bind_some]
  obtain ⟨m2, hm2⟩ : ∃ m2, m2 = ma m1 28 n (15 + (kd : Int)) := ⟨_, rfl⟩
  rw [← hm2]
  have e21 : m2.1 = m1.1 := by rw [hm2]; rfl
  have MI2 : MI m m2 := MI_tr (MI_7 n2) (by rw [hm2]; exact MI_ma (by decide) (Or.inr (by show n < 24; omega)))
  rcases n3 with ⟨t1, p1, p2⟩ | ⟨e, t1, p1, p2, p3, p4, p5, p6⟩
  · rw [p1, te_ok]
    dsimp only
    have IX1 := IX_n h p2
    obtain ⟨f1, f2, f3, f4, f5, f6, f7, f8⟩ := p2
    have FR1 : FRo N0 t t1 := FRo_7 hN.2.2.2.1 hN.2.2.2.2 f3
    have hN1 : N0 ≤ zN t1 ∧ N0 ≤ r := ⟨by omega, hN.2.2.2.2⟩
    have R2 : R7 G L t1 m2 r := R7_a f1 e21 (by rw [hm2, ma_o (by decide)]) (by rw [hm2, ma_o (by decide)])
    obtain ⟨x, m3, v1, v2⟩ := number7 R2 (by rw [e21]; omega) (lo := lo) (hi := hi) (by omega) (by omega)
    unfold f7_priceRow_b84
    rw [v1, Option.bind_some, ztg_e f1.1.1.1, Option.bind_some]
    rw [e21] at v2
    rcases v2 with ⟨t2, u1, u2, u3, u4⟩ | ⟨e, t2, K, P, u1, u2, u3⟩
    · rw [u1, te_ok]
      dsimp only
      obtain ⟨g1, g2, g3, g4, g5, g6, g7, g8⟩ := u2
      rw [e21] at g6
      have g8' : ∀ k, (k < 3 ∨ 7 < k) → m3.1 k = m1.1 k := fun k hk => by rw [g8 k hk, e21]
      unfold m5_readPrice_b144
      rw [mast_e n rfl (by omega) (by omega), Option.bind_some, mast_e n rfl (by omega) (by omega), Option.bind_some]
      obtain ⟨m4, hm4⟩ : ∃ m4, m4 = ma (ma m3 29 n x) 30 n ((ma m3 29 n x).1 46) := ⟨_, rfl⟩
      rw [← hm4]
      have e41 : m4.1 = m3.1 := by rw [hm4]; rfl
      have a4 : ∀ k, k ≠ 28 → k ≠ 29 → k ≠ 30 → m4.2 k = m1.2 k := fun k k1 k2 k3 => by rw [hm4, ma_o k3, ma_o k2, g7, hm2, ma_o k1]
      have b4 : ∀ k i, i ≠ n → m4.2 k i = m1.2 k i := fun k i hi => by
        rw [hm4, ma_2]
        by_cases z30 : k = 30
        · rw [if_pos z30, up_o hi, z30, ma_o (by decide), g7, hm2, ma_o (by decide)]
        · rw [if_neg z30, ma_2]
          by_cases z29 : k = 29
          · rw [if_pos z29, up_o hi, z29, g7, hm2, ma_o (by decide)]
          · rw [if_neg z29, g7, hm2, ma_2]
            by_cases z28 : k = 28
            · rw [if_pos z28, up_o hi, z28]
            · rw [if_neg z28]
      have hWe : Weq W (slc m4 0) := Weq_p IX1.2.1.2.1.1 hn a4 b4
      have KK3 := KK_7 IX1.2.1.1 g3
      have KO3 := KO_7 IX1.2.1.1 g3
      have hnd : m1.1 46 ≤ m4.1 46 ∧ ∀ k : Nat, (k : Int) < m1.1 46 → ndN m4 k = ndN m1 k := ⟨by rw [e41, g8' 46 (by omega)]; exact Int.le_refl _, fun k _ => nd_of (fun j hj => a4 j (by omega) (by omega) (by omega)) k⟩
      have h56 : m4.1 56 = m1.1 56 := by rw [e41, g8' 56 (by omega)]
      have hq4 : ∀ k, k < (m1.1 56).toNat → m4.2 53 k = m1.2 53 k ∧ m4.2 54 k = m1.2 54 k ∧ m4.2 55 k = m1.2 55 k := fun k _ => by
        rw [a4 53 (by decide) (by decide) (by decide), a4 54 (by decide) (by decide) (by decide), a4 55 (by decide) (by decide) (by decide)]; exact ⟨rfl, rfl, rfl⟩
      have WB4 := WB_g KK3 KO3 rfl hWe h56 hnd hq4 IX1.2.1
      have CV4 := CVR_g hWe h56 (fun k hk => (hq4 k hk).2) IX1.2.2.1
      have R4 : R7 G L t2 m4 r := R7_a g1 e41 (by rw [hm4, ma_o (by decide), ma_o (by decide)]) (by rw [hm4, ma_o (by decide), ma_o (by decide)])
      obtain ⟨W4, hW4⟩ : ∃ W4, W4 = slc m4 0 := ⟨_, rfl⟩
      rw [← hW4] at hWe WB4 CV4
      have h46' : m4.1 46 = m1.1 46 := by rw [e41, g8' 46 (by omega)]
      have IX4 : IX G L r a N0 κ t2 m4 W4 := by
        obtain ⟨⟨i1, i2, i3, i4⟩, i5, i6, ⟨i7, i8, i9⟩, i10, i11⟩ := IX1
        refine ⟨⟨R4, by rw [e41]; exact g2, by rw [g5 287 (by omega)]; exact i3, by rw [g3.2.2.2.1]; exact i4⟩, WB4, by rw [h46']; exact CV4, ⟨Z51_e i7 (by rw [e41, g8' 51 (by omega)]) h46' (by rw [e41, g8' 52 (by omega)]), by rw [h46']; exact i8, by rw [h46', e41]; omega⟩, St_k7 i10 f1.2.1.1 hR.1.1.2.1 g3, i11.1, i11.2.1, i11.2.2.1, by omega, hN.2.2.2.2⟩
      have eP : nP W4 = n := by rw [(Weq_n hWe).2.2]; exact hn.symm
      have sl : ∀ k, wid k = 24 → W4 k n = m4.2 k n := fun k hw => by
        rw [hW4]; unfold slc; rw [hw, if_pos hn24, show 24 * 0 + n = n by omega]
      have w28 : W4 28 n = 15 + (kd : Int) := by rw [sl 28 rfl, hm4, ma_o (by decide), ma_o (by decide), g7, hm2, ma_s, if_pos rfl]
      have w29 : W4 29 n = x := by rw [sl 29 rfl, hm4, ma_o (by decide), ma_s, if_pos rfl]
      have w30 : W4 30 n = m4.1 46 := by rw [sl 30 rfl, hm4, ma_s, if_pos rfl]; rfl
      have ht4 : kd = 1 → tmB W4 n ≤ 2 := fun q => by
        rw [tmB_cg n (fun i hi => (hWe.2.2.2 i (by omega)).1)]; exact htm q
      have e8 : m4.1 8 = 0 := R4.2.2.2.2.2
      have MI4 : MI m m4 := MI_tr MI2 (MI_tr (MI_7 (m' := m3) ⟨fun k hk => g8 k (by simp only [CS7, List.mem_cons, List.not_mem_nil, or_false] at hk; omega), fun k _ => by rw [g7]⟩) (by rw [hm4]; exact MI_tr (MI_ma (by decide) (Or.inr (by show n < 24; omega))) (MI_ma (by decide) (Or.inr (by show n < 24; omega)))))
      refine ITM_tr0 (t1 := t2) (m1 := m4) (FRo_tr FR1 (FRo_7 hN1.1 hN1.2 g3)) MI4 (by rw [e41]; omega) ?_
      rw [e8, if_pos (show w32 0 = 0 by decide), w32_n (show kd < 2147483648 by omega), w32_id (x := 15 + (kd : Int)) (by omega) (by omega)]
      by_cases z1 : kd = 1
      · rw [if_pos (by omega), if_pos (by omega)]
        exact price_c IX4 eP.symm hn24 w28 (Or.inl z1) w29 (by omega) w30 ht4
      · by_cases z2 : kd = 2
        · rw [if_neg (by omega), if_pos (by omega), if_neg (by omega), if_pos (by omega)]
          exact price_c IX4 eP.symm hn24 w28 (Or.inr z2) w29 (by omega) w30 ht4
        · rw [if_neg (by omega), if_neg (by omega), if_neg (by omega), if_neg (by omega)]
          exact price_end (κ := κ) (t0 := t2) (W := W4) (i0 := m4.1 46) (n := n) (l := 0) R4 IX4.1.2.1 IX4.1.2.2.1 IX4.1.2.2.2 WB4 IX4.2.2.1 IX4.2.2.2.1.1 ⟨IX4.2.2.2.1.2.1, Int.le_refl _, IX4.2.2.2.1.2.2⟩ IX4.2.2.2.2.1 IX4.2.2.2.2.2 ⟨gro_rf, rfl⟩ (fun _ _ => sam_rf) ⟨WB4.1.1.2.1, rfl, rfl, rfl, by omega⟩ eP.symm hn24 w28 hkd w29 ⟨by rw [← hlo]; exact u3, by omega⟩ w30 (Or.inl ⟨rfl, rfl⟩) ht4
    · right
      have hle := TH_K u2
      rw [u1, xt_tel u2.1]
      have h327 : m3.2 27 0 = (n : Int) := by
        have : m3.2 27 = m2.2 27 := by
          rcases u3 with q | q
          · exact q.2.2.2 27 (by decide)
          · exact q.2.2.2.2.2 27 (by decide)
        rw [this, hm2, ma_o (by decide), f7]; exact e27
      obtain ⟨m', e1, e2⟩ := rdP_f2 (m := m) (m4 := m3) (K := K) (P := P) (x := x) (v := 15 + (kd : Int)) u2.2.1.2 (MFI_tr MI2 (MFI_B u3)) hn24 h327
      exact ⟨e, t2, 1, 8, K, P, m', rfl, THI_tr FR1 hN1 (by omega) u2 (by omega) (by omega), e1, e2⟩
  · right
    rw [p1, xt_tel p2.1]
    obtain ⟨m3, e1, e2⟩ := wN_b (lo := lo) (hi := hi) (m := m2) (by rw [e21]; exact p4) (by rw [e21]; exact p3)
    rw [e21] at e2
    rw [e1, Option.bind_some]
    obtain ⟨m', e3, e4⟩ := rdP_f2 (m := m) (m4 := m3) (K := 1) (P := m1.1 5) (x := lo) (v := 15 + (kd : Int)) (by decide) (MFI_tr MI2 (MFI_B (Or.inl e2))) hn24 (by rw [e2.2.2.2 27 (by decide), hm2, ma_o (by decide), p5]; exact e27)
    exact ⟨e, t1, 1, 8, 1, m1.1 5, m', rfl, THI_tr FRo_rf ⟨hN.2.2.2.1, hN.2.2.2.2⟩ (Int.le_refl _) p2 (by omega) (by omega), e3, e4⟩
theorem price7 {G : CG} {L : Ly} {r a N0 kd : Nat} {κ : Nat → Nat} {t : Sg} {m : Mu} {W : Wv} (h : IX G L r a N0 κ t m W) (h4 : m.1 4 = 4) (hkd : kd < 5) (h7 : m.1 7 = 15 + (kd : Int)) : ITM G L r a N0 t m (f7_priceRow G (some r) kd t) (m5_readPrice m) := by
  obtain ⟨⟨hR, hc, h287, h286⟩, hWB, hCV, ⟨h51, h46, hJ⟩, hSt, hN⟩ := id h
  have b27 : W 27 0 = (nP W : Int) := hWB.2.1.2.2.2.2.2.1
  have b24 : nP W ≤ 24 := hWB.2.1.2.2.2.2.2.2.1
  have btm := hWB.2.1.2.2.2.2.2.2.2.2.2 (nP W) (Nat.le_refl _)
  obtain ⟨n, hn⟩ : ∃ n, n = nP W := ⟨_, rfl⟩
  rw [← hn] at b27 b24 btm
  have e27 : mald m 27 14 0 = some (n : Int) := by
    rw [mald_e (i := 0) 0 rfl (by omega) (by omega)]
    have : slc m 0 27 0 = (n : Int) := by rw [hWB.2.1.1, b27]
    exact congrArg some this
  obtain ⟨el, ⟨l, b, q1, q2, q3, q4, q5, q6, q7⟩, Qq⟩ := hWB.2.2.2.2.2.2.1
  rw [← hn] at q2 q7 Qq
  have hk : ∀ k, k < n → zT t (el k) = 18 ∧ zI t (el k) 680 + 15 = W 28 k ∧ 15 ≤ W 28 k ∧ W 28 k ≤ 19 := fun k hk => by
    obtain ⟨c1, c2, c3, c4, c5, c6⟩ := Qq k hk
    exact ⟨c2, c3, c5.1, c5.2.1⟩
  have hNN : n < NN := by have := NN_gt (show 10000 < 100000 by decide); omega
  have tC := c_times (G := G) hR.1.1.1 h286 hWB.1.1.2.1 q1 q2 q7 hk n NN 0 (Nat.le_refl _) (by omega) hNN
  have tM := m_times (m := m) (v1 := m.1 7) (v2 := (n : Int)) hWB.2.1.1 (fun k q => (hk k q).2.2) b24 n NN 0 (Nat.le_refl _) hNN
  unfold f7_priceRow m5_readPrice m5_readPrice_b62 f7_priceRow_b30 m5_readPrice_b79
  rw [gfR_v hR.1.1.1 h286, Option.bind_some, gfR_v hWB.1.1.2.1 q1, Option.bind_some, ztg_e q2.1, Option.bind_some, J_size q2, Option.bind_some, e27, Option.bind_some, tM, Option.bind_some, h7, w32_n (show n < 2147483648 by omega), w32_n (show kd < 2147483648 by omega), w32_id (x := 15 + (kd : Int)) (by omega) (by omega), ztg_e hR.1.1.1, Option.bind_some]
  have thr6 : ITM G L r a N0 t m (bdU (zNew t 9 8) fun q52 => (gfI q52.2 8 282 (some r)).bind fun x53 => (f8_init G (some q52.1) 6 x53 q52.2).bind fun u54 => xth q52.1 u54) ((m5_wrong 6 m).bind fun u1 => some u1) := by
    right
    obtain ⟨t', e, hth⟩ := c_throw (α := Unit) hR 6
    obtain ⟨m', em, hm, -⟩ := m_wrong hR.2.2.2.2.2 6
    rw [em]
    exact ⟨_, t', 1, 8, 6, m.1 5, m', e, THI_tr FRo_rf ⟨hN.2.2.2.1, hN.2.2.2.2⟩ (Int.le_refl _) hth (by omega) (by omega), rfl, MFI_B (Or.inl hm)⟩
  have eT : f7_timesBehind G (some r) t = some (0 + (tmB W n : Int)) := by
    unfold f7_timesBehind
    rw [gfR_v hR.1.1.1 h286, Option.bind_some, gfR_v hWB.1.1.2.1 q1, Option.bind_some, ztg_e q2.1, Option.bind_some, J_size q2, Option.bind_some, tC, Option.bind_some]
  by_cases z : n = 24
  · rw [if_pos (by omega), if_pos (by omega)]; exact thr6
  · rw [if_neg (show ¬ (n : Int) = 24 by omega), if_neg (show ¬ (n : Int) = 24 by omega)]
    by_cases z1 : kd = 1
    · rw [if_pos (show (kd : Int) = 1 by omega), if_pos (show 15 + (kd : Int) = 16 by omega), eT, Option.bind_some, w32_id (x := 0 + (tmB W n : Int)) (by omega) (by omega)]
      by_cases z3 : tmB W n = 3
      · rw [if_pos (by omega), if_pos (by omega)]; exact thr6
      · rw [if_neg (by omega), if_neg (by omega)]
        exact price_b h h4 hkd hn (by omega) (fun _ => by omega)
    · rw [if_neg (show ¬ (kd : Int) = 1 by omega), if_neg (show ¬ 15 + (kd : Int) = 16 by omega)]
      exact price_b h h4 hkd hn (by omega) (fun q => absurd q z1)

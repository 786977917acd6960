/-! THE READER: a price row -/
/-- an item's outcome, from an earlier state -/
theorem ITM_tr {G : CG} {L : Ly} {r a N0 : Nat} {t t1 : Sg} {m m1 : Mu} {x1 : Option (((Nat ⊕ Unit) × Sg) × Nat × Nat)} {y : Option Mu} {c n : Nat} (hf : FRo N0 t t1) (hm : MI m m1) (h5 : m.1 5 ≤ m1.1 5) (hc : (c : Int) ≤ 20 * (m1.1 5 - m.1 5)) (hn : (n : Int) ≤ 600 * (m1.1 5 - m.1 5)) (h : ITM G L r a N0 t1 m1 x1 y) : ITM G L r a N0 t m (x1.map fun r => (r.1, r.2.1 + c, r.2.2 + n)) y := by
  rcases h with ⟨t', cc, nn, m', κ', W', e1, e2, e3, e4, e5, e6⟩ | ⟨e, t', cc, nn, K, P, m', e1, e2, e3, e4⟩
  · refine Or.inl ⟨t', cc + c, nn + n, m', κ', W', by rw [e1]; rfl, e2, e3, FRo_tr hf e4, MI_tr hm e5, ?_⟩
    obtain ⟨c1, c2, c3, c4⟩ := e6
    exact ⟨by omega, by omega, by omega, by omega⟩
  · refine Or.inr ⟨e, t', cc + c, nn + n, K, P, m', by rw [e1]; rfl, ?_, e3, MFI_tr hm e4⟩
    obtain ⟨q1, q2, q3, q4, q5, q6, q7, q8⟩ := e2
    exact ⟨q1, q2, q3, q4, FRo_tr hf q5, by omega, by omega, by omega⟩
theorem ITM_tr0 {G : CG} {L : Ly} {r a N0 : Nat} {t t1 : Sg} {m m1 : Mu} {x1 : Option (((Nat ⊕ Unit) × Sg) × Nat × Nat)} {y : Option Mu} (hf : FRo N0 t t1) (hm : MI m m1) (h5 : m.1 5 ≤ m1.1 5) (h : ITM G L r a N0 t1 m1 x1 y) : ITM G L r a N0 t m x1 y := by
  have := ITM_tr (c := 0) (n := 0) hf hm h5 (by omega) (by omega) h
  have e : (x1.map fun r => (r.1, r.2.1 + 0, r.2.2 + 0)) = x1 := by cases x1 <;> rfl
  rw [e] at this; exact this
theorem cond_bad {m : Mu} (h8 : m.1 8 = 0) (h4 : m.1 4 = 5) : ∃ m', m5_cond m = some m' ∧ MF m m' 1 (m.1 5) := by
  obtain ⟨mc, hmc⟩ : ∃ mc, mc = ms (ms m 49 0) 50 0 := ⟨_, rfl⟩
  have oc : ∀ j, j ≠ 49 → j ≠ 50 → mc.1 j = m.1 j := fun j h1 h2 => by rw [hmc, ms_1, if_neg h2, ms_1, if_neg h1]
  obtain ⟨m4, z1, z2⟩ := bad1 (m := mc) (by rw [oc 8 (by decide) (by decide)]; exact h8) (by rw [oc 4 (by decide) (by decide)]; exact h4)
  rw [oc 5 (by decide) (by decide)] at z2
  have Fc : mfr CS7 CA7 m mc := by rw [hmc]; exact mfr_ms (mfr_ms mfr_rf (by decide)) (by decide)
  refine ⟨m4, ?_, z2.1, z2.2.1, mfr_tr Fc z2.2.2⟩
  obtain ⟨k, hk⟩ : ∃ k, NN = k + 2 := ⟨NN - 2, by have := NN_gt (show 2 < 100000 by decide); omega⟩
  rw [m_cond_TC, ← hmc, hk]; exact z1 k
theorem price_c {G : CG} {L : Ly} {r a N0 n kd : Nat} {κ : Nat → Nat} {t : Sg} {m : Mu} {W : Wv} {x : Int} (h : IX G L r a N0 κ t m W) (hn : n = nP W) (hn24 : n < 24) (w28 : W 28 n = 15 + (kd : Int)) (hkd : kd = 1 ∨ kd = 2) (w29 : W 29 n = x) (hx : 0 ≤ x ∧ x ≤ 9999999) (w30 : W 30 n = m.1 46) (htm : kd = 1 → tmB W n ≤ 2) : ITM G L r a N0 t m (f7_priceRow_b100 G (some r) kd x none t) (m5_readPrice_b174 n m) := by
  obtain ⟨⟨hR, hc, h287, h286⟩, hWB, hCV, ⟨h51, h46, hJ⟩, hSt, hN⟩ := id h
  have hG0 := hWB.1.2.2.2.2
  have b27 : W 27 0 = (nP W : Int) := hWB.2.1.2.2.2.2.2.1
  have e27 : m.2 27 0 = (n : Int) := by
    have : slc m 0 27 0 = (n : Int) := by rw [hWB.2.1.1, b27, hn]
    exact this
  unfold f7_priceRow_b100 m5_readPrice_b174
  rw [ztg_e hR.1.1.1, Option.bind_some, c_is hR (j := 20) (by decide) (show (26982 : Int) = (enc 256 (wdC 20) : Nat) by decide), Option.bind_some, w32_b2i, show (20 : Int) = ((20 : Nat) : Int) from rfl, m_is hR (j := 20) (by decide), Option.bind_some, Option.bind_some, w32_b2i]
  by_cases z : m.1 4 = 4 ∧ m.1 7 = ((20 : Nat) : Int)
  · rw [decide_eq_true z, if_neg (by decide), if_neg (by decide)]
    obtain ⟨m1, n1, n2, n3⟩ := next8 hR (by omega) (by omega)
    rw [n1, Option.bind_some]
    rcases n3 with ⟨t1, p1, p2⟩ | ⟨e, t1, p1, p2, p3, p4, p5, p6⟩
    · rw [p1, te_ok]
      dsimp only
      have IX1 := IX_n h p2
      obtain ⟨f1, f2, f3, f4, f5, f6, f7, f8⟩ := p2
      have FR1 : FRo N0 t t1 := FRo_7 hN.2.2.2.1 hN.2.2.2.2 f3
      have hN1 : N0 ≤ zN t1 ∧ N0 ≤ r := ⟨by omega, hN.2.2.2.2⟩
      rw [gfI_v f1.1.1.1 f1.2.2.2.1.1, Option.bind_some, ztg_e f1.1.1.1, Option.bind_some]
      have e46 : m1.1 46 = m.1 46 := f8 46 (by omega)
      rcases cond7 (IX_CX IX1) IX1.1.2.2.1 IX1.2.2.2.1.2.1 IX1.2.2.2.1.2.2 with ⟨c, t2, cc, nn, m4, ns, x1, x2, ⟨x3, x4, x5, x6⟩, ⟨x7, x8, x9, x10, x11⟩, x12, x13, x14⟩ | ⟨e, t2, cc, nn, K, P, m4, x1, x2, x3, x4⟩ | ⟨c, t2, cc, nn, m4, md, x1, x2, x3, x4, x5, x6, x7⟩
      · rw [x1, te_okc, x2, Option.bind_some]
        dsimp only
        have W2 := cond_WB (L := L) IX1.2.1 x4 x6 (by omega) x9 (by rw [e46]; exact h46)
        have CBn := CB_new (κ := κ) (by rw [e46]; exact h46) x7 x8 x13 x12
        obtain ⟨κ1, hκ1⟩ : ∃ κ1, κ1 = fzn κ (zN t1) (zN t2) := ⟨_, rfl⟩
        rw [← hκ1] at W2 CBn
        obtain ⟨⟨o1, o2, o3⟩, o4, o5, o6, o7⟩ := id W2.1
        have hNa : N0 ≤ a := k25 o5 o6 a (by omega)
        have hane : a ≠ r := fun e => by rw [e, o3] at o1; exact absurd o1 (by decide)
        rw [gfR_v x3.1.1.1.1 (show zR t2 r 286 = some a from x3.2.2.1.2), Option.bind_some, gfI_e o2, Option.bind_some, gfI_v x3.1.1.1.1 x3.1.2.2.2.1.1, Option.bind_some, pfI_e o2 (Nat.le_trans hG0 hNa), Option.bind_some]
        obtain ⟨t3, ht3⟩ : ∃ t3, t3 = zsI t2 a 248 (zI t2 a 248 + (m4.1 52 - m1.1 52)) := ⟨_, rfl⟩
        rw [← ht3]
        obtain ⟨c1, c2, c3, c4⟩ := x14
        have ss : ∀ q, q ≠ a → sam t2 t3 q := fun q hq => by
          rw [ht3]; exact ⟨rfl, rfl, by funext j; rw [zsI_I, if_neg (fun e => hq e.1)], rfl, rfl, rfl⟩
        have gg : gro t2 t3 ∧ zN t3 = zN t2 := by rw [ht3]; exact ⟨⟨Nat.le_refl _, fun _ _ => ⟨rfl, rfl⟩⟩, rfl⟩
        have hN2 : N0 ≤ zN t2 := by have := x4.1.1; omega
        have sr := ss r (fun e => hane e.symm)
        have F23 : FRo N0 t2 t3 := ⟨gg.1, fun q hq => ss q (by omega)⟩
        refine ITM_tr (t1 := t3) (m1 := m4) (FRo_tr FR1 (FRo_tr (FRo_7 hN1.1 hN1.2 x4) F23)) (MI_tr (MI_7 n2) (MI_7 x6)) (by omega) (by omega) (by omega) ?_
        refine price_end (κ := κ1) (t0 := t2) (W := W) (i0 := m.1 46) (n := n) (l := 0) (R7_z x3.1 (fun q hq => ?_) gg.1) x3.2.1 (by rw [sr.2.2.1]; exact x5) (by rw [sr.2.2.2.1]; exact x3.2.2.1.2) W2 ?_ ⟨x3.2.2.2.1.2.2, by have := IX1.2.2.2.1.1.2; omega⟩ (by omega) (St_s x3.2.2.2.2 (fun q hq => ss q (by omega))) ⟨hN.1, hN.2.1, hN.2.2.1, by omega, hN.2.2.2.2⟩ gg ss ?_ hn hn24 w28 (by omega) w29 ⟨by rw [if_neg (by omega)]; exact hx.1, hx.2⟩ w30 (Or.inr ⟨hkd, c, rfl, by rw [← e46]; exact CBn⟩) htm
        · rcases hq with rfl | rfl | rfl | rfl
          · exact sr
          · exact ss _ (by omega)
          · exact ss _ (by omega)
          · exact ss _ (by omega)
        · rw [← e46]
          refine CVR_g Weq_rf (x6.1 56 (by decide)) (fun k _ => by rw [x6.2 54 (by decide), x6.2 55 (by decide)]; exact ⟨rfl, rfl⟩) IX1.2.2.1
        · rw [ht3]
          refine ⟨o2, rfl, by rw [zsI_I, if_neg (fun e => absurd e.2 (by decide))], by rw [zsI_I, if_neg (fun e => absurd e.2 (by decide))], ?_⟩
          rw [zsI_I, if_pos ⟨rfl, rfl⟩]; omega
      · right
        have hle := TH_K x2
        rw [x1, xt_tel x2.1, x3, Option.bind_some]
        have h427 : m4.2 27 0 = (n : Int) := by
          have : m4.2 27 = m1.2 27 := by
            rcases x4 with q | q
            · exact q.2.2.2 27 (by decide)
            · exact q.2.2.2.2.2 27 (by decide)
          rw [this, f7]; exact e27
        obtain ⟨m', e1, e2⟩ := rdP_f (m := m) (m4 := m4) (K := K) (P := P) x2.2.1.2 (MFI_tr (MI_7 n2) (MFI_B x4)) hn24 h427
        rw [e1]
        exact ⟨e, t2, cc, nn, K, P, m', rfl, THI_tr FR1 hN1 (by omega) x2 (by omega) (by omega), rfl, e2⟩
      · right
        rw [x1, te_okc]
        dsimp only
        obtain ⟨d1, d2, d3, d4, d5, d6⟩ := x2
        have haN : a < zN t1 := IX1.2.1.1.2.1 a (by rw [IX1.2.1.1.1.1]; decide)
        have hNa : N0 ≤ a := k25 IX1.2.1.1.2.2.1 IX1.2.1.1.2.2.2.1 a (by rw [IX1.2.1.1.1.1]; decide)
        have hane : a ≠ r := fun e => by have := IX1.2.1.1.1.1; rw [e, IX1.2.1.1.1.2.2] at this; exact absurd this (by decide)
        have sa := d3.2.1 a haN hane
        have o2 : zT t2 a = 7 := by rw [sa.1]; exact IX1.2.1.1.1.2.1
        rw [gfR_v d1.1.1.1 (show zR t2 r 286 = some a by rw [d3.2.2.2.1, f3.2.2.2.1]; exact h286), Option.bind_some, gfI_e o2, Option.bind_some, gfI_e d1.1.1.1, Option.bind_some, pfI_e o2 (Nat.le_trans hG0 hNa), Option.bind_some]
        obtain ⟨t3, ht3⟩ : ∃ t3, t3 = zsI t2 a 248 (zI t2 a 248 + (zI t2 r 288 - m1.1 52)) := ⟨_, rfl⟩
        rw [← ht3]
        have ss : ∀ q, q ≠ a → sam t2 t3 q := fun q hq => by
          rw [ht3]; exact ⟨rfl, rfl, by funext j; rw [zsI_I, if_neg (fun e => hq e.1)], rfl, rfl, rfl⟩
        have gg : gro t2 t3 ∧ zN t3 = zN t2 := by rw [ht3]; exact ⟨⟨Nat.le_refl _, fun _ _ => ⟨rfl, rfl⟩⟩, rfl⟩
        have sr := ss r (fun e => hane e.symm)
        have F23 : FRo N0 t2 t3 := ⟨gg.1, fun q hq => ss q (by omega)⟩
        have d1' : R7 G L t3 md r := by
          refine R7_z d1 (fun q hq => ?_) gg.1
          rcases hq with rfl | rfl | rfl | rfl
          · exact sr
          · exact ss _ (by omega)
          · exact ss _ (by omega)
          · exact ss _ (by omega)
        unfold f7_priceRow_b144
        rw [ztg_e d1'.1.1.1, Option.bind_some, x3, Option.bind_some]
        obtain ⟨m', e1, e2⟩ := rdP_f (m := m) (m4 := m4) (K := 2) (P := md.1 5) (by decide) (MFI_tr (MI_7 n2) (MFI_B (Or.inl x4))) hn24 (by rw [x4.2.2.2 27 (by decide), f7]; exact e27)
        rw [e1]
        rcases c_want d1' (j := 6) (by decide) (l := 59) rfl with ⟨q9, e', t4, q1, q2⟩ | ⟨q9, q1, q2⟩
        · rw [q1, xt_tel q2.1]
          exact ⟨e', t4, 1 + cc, 8 + nn, 2, md.1 5, m', rfl, THI_tr (FRo_tr FR1 (FRo_tr (FRo_7 hN1.1 hN1.2 d3) F23)) ⟨by have := d3.1.1; omega, hN1.2⟩ (by omega) q2 (by omega) (by omega), rfl, e2⟩
        · exfalso
          have := d2.2
          have : md.1 7 = 6 := q9.2
          omega
    · right
      rw [p1, xt_tel p2.1]
      obtain ⟨m4, z1, z2⟩ := cond_bad p4 p3
      rw [z1, Option.bind_some]
      obtain ⟨m', e1, e2⟩ := rdP_f (m := m) (m4 := m4) (K := 1) (P := m1.1 5) (by decide) (MFI_tr (MI_7 n2) (MFI_B (Or.inl z2))) hn24 (by rw [z2.2.2.2 27 (by decide), p5]; exact e27)
      rw [e1]
      exact ⟨e, t1, 1, 8, 1, m1.1 5, m', rfl, THI_tr FRo_rf ⟨hN.2.2.2.1, hN.2.2.2.2⟩ (Int.le_refl _) p2 (by omega) (by omega), rfl, e2⟩
  · rw [decide_eq_false z, if_pos (by rfl), if_pos (by rfl)]
    exact price_end (κ := κ) (t0 := t) (W := W) (i0 := m.1 46) (n := n) (l := 0) hR hc h287 h286 hWB hCV h51 (by omega) hSt hN ⟨gro_rf, rfl⟩ (fun _ _ => sam_rf) ⟨hWB.1.1.2.1, rfl, rfl, rfl, by omega⟩ hn hn24 w28 (by omega) w29 ⟨by rw [if_neg (by omega)]; exact hx.1, hx.2⟩ w30 (Or.inl ⟨rfl, rfl⟩) htm

/-! THE READER: a meaning -/
theorem mean7 {G : CG} {L : Ly} {r a N0 : Nat} {κ : Nat → Nat} {t : Sg} {m : Mu} {W : Wv} (h : IX G L r a N0 κ t m W) (h4 : m.1 4 = 4) : ITM G L r a N0 t m (f7_meaning G (some r) t) ((m5_next m).bind fun u13 => (m5_readMean u13).bind fun u14 => some u14) := by
  obtain ⟨⟨hR, hc, h287, h286⟩, hWB, hCV, ⟨h51, h46, hJ⟩, hSt, hN⟩ := id h
  have hsl : slc m 0 = W := hWB.2.1.1
  have b19 : W 19 0 = (nM W : Int) := hWB.2.1.2.2.2.1
  have b12 : nM W ≤ 12 := hWB.2.1.2.2.2.2.1
  obtain ⟨n, hn⟩ : ∃ n, n = nM W := ⟨_, rfl⟩
  rw [← hn] at b19 b12
  have e19 : m.2 19 0 = (n : Int) := by
    have : slc m 0 19 0 = (n : Int) := by rw [hsl, b19]
    exact this
  have hNn := hN.2.2.2.2
  unfold f7_meaning
  rw [ztg_e hR.1.1.1, Option.bind_some]
  obtain ⟨m1, n1, n2, n3⟩ := next8 hR (by omega) (by omega)
  rw [n1, Option.bind_some, bind_id7]
  unfold m5_readMean
  have a119 : m1.2 19 0 = (n : Int) := by rw [n2.2 19 (by decide)]; exact e19
  have e119 : mald m1 19 14 0 = some (n : Int) := by rw [mald_e (i := 0) 0 rfl (by omega) (by omega), a119]
  rw [e119, Option.bind_some]
  rcases n3 with ⟨t1, p1, p2⟩ | ⟨e, t1, p1, p2, p3, p4, p5, p6⟩
  · rw [p1, te_ok]
    dsimp only
    have IX1 := IX_n h p2
    obtain ⟨f1, f2, f3, f4, f5, f6, f7, f8⟩ := p2
    have FR1 : FRo N0 t t1 := FRo_7 hN.2.2.2.1 hNn f3
    have hN1 : N0 ≤ zN t1 ∧ N0 ≤ r := ⟨by omega, hNn⟩
    rw [ztg_e f1.1.1.1, Option.bind_some]
    rcases newName7 IX1 (v1 := (n : Int)) (v2 := 12) with ⟨e, t2, K, m2, x1, x2, x3, x4⟩ | ⟨x, x1, x2, x3, x4⟩
    · right
      have hK := x2.2.1.2
      rw [x1, xt_tel x2.1, x3, Option.bind_some, x4.1, w32_id (x := K) (by omega) (by omega), if_neg (by omega)]
      exact ⟨e, t2, 1, 8, K, m1.1 5, m2, rfl, THI_tr FR1 hN1 (by omega) x2 (by omega) (by omega), rfl, MFI_tr (MI_7 n2) (MFI_B (Or.inl x4))⟩
    · rw [x1, te_ok, x4]
      dsimp only
      obtain ⟨e3, ⟨l, b, q1, q2, q3, q4, q5, q6, q7⟩, Q3⟩ := IX1.2.1.2.2.2.2.1
      rw [← hn] at q2
      rw [gfR_v f1.1.1.1 IX1.1.2.2.2, Option.bind_some, gfR_v IX1.2.1.1.1.2.1 q1, Option.bind_some, ztg_e q2.1, Option.bind_some, J_size q2, Option.bind_some, w32_n (show n < 2147483648 by omega), show w32 12 = 12 from rfl]
      by_cases z : n = 12
      · rw [if_pos (show (n : Int) = 12 by omega), if_pos (show (n : Int) = 12 by omega)]
        right
        obtain ⟨t', e, hth⟩ := c_throw (α := Unit) f1 6
        obtain ⟨m', em, hm, -⟩ := m_wrong f1.2.2.2.2.2 6
        rw [em, Option.bind_some, Option.bind_some, hm.1, if_neg (by decide)]
        exact ⟨_, t', 1, 8, 6, m1.1 5, m', e, THI_tr FR1 hN1 (by omega) hth (by omega) (by omega), rfl, MFI_tr (MI_7 n2) (MFI_B (Or.inl hm))⟩
      · rw [if_neg (show ¬ (n : Int) = 12 by omega), if_neg (show ¬ (n : Int) = 12 by omega), Option.bind_some, f1.2.2.2.2.2, if_pos (show w32 0 ≤ 0 by decide), e119, Option.bind_some, mast_e n rfl (by omega) (by omega), Option.bind_some, ztg_e f1.1.1.1, Option.bind_some]
        obtain ⟨m2, hm2⟩ : ∃ m2, m2 = ma m1 20 n (m1.1 6) := ⟨_, rfl⟩
        rw [← hm2]
        have e21 : m2.1 = m1.1 := by rw [hm2]; rfl
        have MI2 : MI m m2 := MI_tr (MI_7 n2) (by rw [hm2]; exact MI_ma (by decide) (Or.inr (by show n < 12; omega)))
        have R2 : R7 G L t1 m2 r := R7_a f1 e21 (by rw [hm2, ma_o (by decide)]) (by rw [hm2, ma_o (by decide)])
        obtain ⟨m3, y1, y2, y3⟩ := next8 R2 (by rw [e21]; omega) (by rw [e21]; omega)
        rw [y1, Option.bind_some]
        rw [e21] at y3
        have MI3 : MI m m3 := MI_tr MI2 (MI_7 y2)
        have a319 : m3.2 19 0 = (n : Int) := by rw [y2.2 19 (by decide), hm2, ma_o (by decide)]; exact a119
        rcases y3 with ⟨t2, s1, s2⟩ | ⟨e, t2, s1, s2, s3, s4, s5, s6⟩
        · rw [s1, te_ok]
          dsimp only
          obtain ⟨g1, g2, g3, g4, g5, g6, g7, g8⟩ := s2
          rw [e21] at g6
          have FR2 : FRo N0 t t2 := FRo_tr FR1 (FRo_7 hN1.1 hNn g3)
          have hN2 : N0 ≤ zN t2 ∧ N0 ≤ r := ⟨by omega, hNn⟩
          rw [ztg_e g1.1.1.1, Option.bind_some]
          obtain ⟨m4, v1, v2⟩ := want7 g1 (by omega) (j := 0) (by decide) (l := 61) (v := 0) rfl rfl
          rw [v1, Option.bind_some]
          rcases v2 with ⟨t3, u1, u2⟩ | ⟨e, t3, K, P, u1, u2, u3⟩
          · rw [u1, te_ok]
            dsimp only
            obtain ⟨d1, d2, d3, d4, d5, d6, d7, d8⟩ := u2
            have FR3 : FRo N0 t t3 := FRo_tr FR2 (FRo_7 hN2.1 hNn d3)
            have hN3 : N0 ≤ zN t3 ∧ N0 ≤ r := ⟨by omega, hNn⟩
            rw [mast_e n rfl (by omega) (by omega), Option.bind_some]
            obtain ⟨m5, hm5⟩ : ∃ m5, m5 = ma m4 21 n (m4.1 46) := ⟨_, rfl⟩
            rw [← hm5]
            have e51 : m5.1 = m4.1 := by rw [hm5]; rfl
            have e5k : ∀ k, (k < 3 ∨ 7 < k) → m5.1 k = m1.1 k := fun k hk => by rw [e51, d8 k hk, g8 k hk, e21]
            have a5 : ∀ k, k ≠ 20 → k ≠ 21 → k ≠ 22 → m5.2 k = m1.2 k := fun k k1 k2 k3 => by rw [hm5, ma_o k2, d7, g7, hm2, ma_o k1]
            have b5 : ∀ k i, i ≠ n → m5.2 k i = m1.2 k i := fun k i hi => by
              rw [hm5, ma_2]
              by_cases z21 : k = 21
              · rw [if_pos z21, up_o hi, z21, d7, g7, hm2, ma_o (by decide)]
              · rw [if_neg z21, d7, g7, hm2, ma_2]
                by_cases z20 : k = 20
                · rw [if_pos z20, up_o hi, z20]
                · rw [if_neg z20]
            have hWe : Weq W (slc m5 0) := Weq_m IX1.2.1.2.1.1 hn a5 b5
            have fr13 := fr7_tr g3 d3
            have KK3 := KK_7 IX1.2.1.1 fr13
            have KO3 := KO_7 IX1.2.1.1 fr13
            have hnd : m1.1 46 ≤ m5.1 46 ∧ ∀ k : Nat, (k : Int) < m1.1 46 → ndN m5 k = ndN m1 k := ⟨by rw [e5k 46 (by omega)]; exact Int.le_refl _, fun k _ => nd_of (fun j hj => a5 j (by omega) (by omega) (by omega)) k⟩
            have h56 : m5.1 56 = m1.1 56 := e5k 56 (by omega)
            have hq5 : ∀ k, k < (m1.1 56).toNat → m5.2 53 k = m1.2 53 k ∧ m5.2 54 k = m1.2 54 k ∧ m5.2 55 k = m1.2 55 k := fun k _ => by
              rw [a5 53 (by decide) (by decide) (by decide), a5 54 (by decide) (by decide) (by decide), a5 55 (by decide) (by decide) (by decide)]; exact ⟨rfl, rfl, rfl⟩
            have WB5 := WB_g KK3 KO3 rfl hWe h56 hnd hq5 IX1.2.1
            have CV5 := CVR_g hWe h56 (fun k hk => (hq5 k hk).2) IX1.2.2.1
            have R5 : R7 G L t3 m5 r := R7_a d1 e51 (by rw [hm5, ma_o (by decide)]) (by rw [hm5, ma_o (by decide)])
            obtain ⟨W5, hW5⟩ : ∃ W5, W5 = slc m5 0 := ⟨_, rfl⟩
            rw [← hW5] at hWe WB5 CV5
            have h46' : m5.1 46 = m1.1 46 := e5k 46 (by omega)
            have IX5 : IX G L r a N0 κ t3 m5 W5 := by
              obtain ⟨⟨i1, i2, i3, i4⟩, i5, i6, ⟨i7, i8, i9⟩, i10, i11⟩ := IX1
              refine ⟨⟨R5, by rw [e51]; exact d2, by rw [d5 287 (by omega), g5 287 (by omega)]; exact i3, by rw [fr13.2.2.2.1]; exact i4⟩, WB5, by rw [h46']; exact CV5, ⟨Z51_e i7 (e5k 51 (by omega)) h46' (e5k 52 (by omega)), by rw [h46']; exact i8, by rw [h46', e51]; omega⟩, St_k7 i10 f1.2.1.1 hR.1.1.2.1 fr13, i11.1, i11.2.1, i11.2.2.1, by omega, hNn⟩
            have eM : nM W5 = n := by rw [(Weq_n hWe).2.1]; exact hn.symm
            have sl : ∀ k, wid k = 12 → W5 k n = m5.2 k n := fun k hw => by
              rw [hW5]; unfold slc; rw [hw, if_pos (by omega), show 12 * 0 + n = n by omega]
            have w20 : W5 20 n = m1.1 6 := by rw [sl 20 rfl, hm5, ma_o (by decide), d7, g7, hm2, ma_s, if_pos rfl]
            have w21 : W5 21 n = m5.1 46 := by rw [sl 21 rfl, hm5, ma_s, if_pos rfl]; rfl
            have MI5 : MI m m5 := MI_tr MI3 (MI_tr (MI_7 (m' := m4) ⟨fun k hk => d8 k (by simp only [CS7, List.mem_cons, List.not_mem_nil, or_false] at hk; omega), fun k _ => by rw [d7]⟩) (by rw [hm5]; exact MI_ma (by decide) (Or.inr (by show n < 12; omega))))
            have a519 : m5.2 19 0 = (n : Int) := by rw [a5 19 (by decide) (by decide) (by decide)]; exact a119
            rw [gfI_v d1.1.1.1 R5.2.2.2.1.1, Option.bind_some, ztg_e d1.1.1.1, Option.bind_some]
            have h55 : m4.1 5 = m5.1 5 := by rw [e51]
            rcases cond7 (IX_CX IX5) IX5.1.2.2.1 IX5.2.2.2.1.2.1 IX5.2.2.2.1.2.2 with ⟨c, t4, cc, nn, m6, ns, z1, z2, ⟨z3, z4, z5, z6⟩, ⟨z7, z8, z9, z10, z11⟩, z12, z13, z14⟩ | ⟨e, t4, cc, nn, K, P, m6, z1, z2, z3, z4⟩ | ⟨c, t4, cc, nn, m6, md, z1, z2, z3, z4, z5, z6, z7⟩
            · rw [z1, te_okc, z2, Option.bind_some]
              dsimp only
              have W6 := cond_WB (L := L) IX5.2.1 z4 z6 (by omega) z9 IX5.2.2.2.1.2.1
              have CBn := CB_new (κ := κ) IX5.2.2.2.1.2.1 z7 z8 z13 z12
              obtain ⟨c1, c2, c3, c4⟩ := z14
              refine ITM_tr (t1 := t4) (m1 := m6) (FRo_tr FR3 (FRo_7 hN3.1 hNn z4)) (MI_tr MI5 (MI_7 z6)) (by omega) (by omega) (by omega) ?_
              exact mean_end (i0 := m5.1 46) (x := x) z3.1 z3.2.1 z5 z3.2.2.1.2 W6 (CVR_g Weq_rf (z6.1 56 (by decide)) (fun k _ => by rw [z6.2 54 (by decide), z6.2 55 (by decide)]; exact ⟨rfl, rfl⟩) IX5.2.2.1) ⟨z3.2.2.2.1.2.2, by have := IX5.2.2.2.1.1.2; omega⟩ ⟨IX5.2.2.2.1.2.1, by omega, z11⟩ (by omega) z3.2.2.2.2 ⟨hN.1, hN.2.1, hN.2.2.1, by have := z4.1.1; omega, hNn⟩ eM.symm (by omega) (by rw [w20]; exact x2) w21 CBn
            · right
              have hle := TH_K z2
              rw [z1, xt_tel z2.1, z3, Option.bind_some]
              have h619 : m6.2 19 0 = (n : Int) := by
                have : m6.2 19 = m5.2 19 := by
                  rcases z4 with q | q
                  · exact q.2.2.2 19 (by decide)
                  · exact q.2.2.2.2.2 19 (by decide)
                rw [this]; exact a519
              obtain ⟨m', e1, e2⟩ := rdM_f (m := m) (m4 := m6) (K := K) (P := P) (n := n) z2.2.1.2 (MFI_tr MI5 (MFI_B z4)) (by omega) h619
              rw [e1]
              exact ⟨e, t4, cc, nn, K, P, m', rfl, THI_tr FR3 hN3 (by omega) z2 (by omega) (by omega), rfl, e2⟩
            · right
              rw [z1, te_okc]
              dsimp only
              obtain ⟨j1, j2, j3, j4, j5, j6⟩ := z2
              rw [ztg_e j1.1.1.1, Option.bind_some, z3, Option.bind_some]
              obtain ⟨m', e1, e2⟩ := rdM_f (m := m) (m4 := m6) (K := 2) (P := md.1 5) (n := n) (by decide) (MFI_tr MI5 (MFI_B (Or.inl z4))) (by omega) (by rw [z4.2.2.2 19 (by decide)]; exact a519)
              rw [e1]
              rcases c_want j1 (j := 6) (by decide) (l := 59) rfl with ⟨k9, e', t5, k1, k2⟩ | ⟨k9, k1, k2⟩
              · rw [k1, xt_tel k2.1]
                exact ⟨e', t5, 1 + cc, 8 + nn, 2, md.1 5, m', rfl, THI_tr (FRo_tr FR3 (FRo_7 hN3.1 hNn j3)) ⟨by have := j3.1.1; omega, hNn⟩ (by omega) k2 (by omega) (by omega), rfl, e2⟩
              · exfalso
                have := j2.2
                have : md.1 7 = 6 := k9.2
                omega
          · right
            have hle := TH_K u2
            rw [u1, xt_tel u2.1]
            have h419 : m4.2 19 0 = (n : Int) := by
              have : m4.2 19 = m3.2 19 := by
                rcases u3 with q | q
                · exact q.2.2.2 19 (by decide)
                · exact q.2.2.2.2.2 19 (by decide)
              rw [this]; exact a319
            obtain ⟨m', e1, e2⟩ := rdM_f2 (m := m) (m4 := m4) (K := K) (P := P) (n := n) u2.2.1.2 (MFI_tr MI3 (MFI_B u3)) (by omega) h419
            exact ⟨e, t3, 1, 8, K, P, m', rfl, THI_tr FR2 hN2 (by omega) u2 (by omega) (by omega), e1, e2⟩
        · right
          have hle := TH_K s2
          rw [s1, xt_tel s2.1]
          obtain ⟨m4, w1, w2⟩ := wS_b (v := 0) (m := m3) (by decide) s4 s3
          rw [w1, Option.bind_some]
          obtain ⟨m', e1, e2⟩ := rdM_f2 (m := m) (m4 := m4) (K := 1) (P := m3.1 5) (n := n) (by decide) (MFI_tr MI3 (MFI_B (Or.inl w2))) (by omega) (by rw [w2.2.2.2 19 (by decide)]; exact a319)
          exact ⟨e, t2, 1, 8, 1, m3.1 5, m', rfl, THI_tr FR1 hN1 (by omega) s2 (by omega) (by omega), e1, e2⟩
  · right
    rw [p1, xt_tel p2.1]
    obtain ⟨m2, w1, w2⟩ := newName_b (v1 := (n : Int)) (v2 := 12) p4 p3
    rw [w1, Option.bind_some, w2.1, if_neg (by decide)]
    exact ⟨e, t1, 1, 8, 1, m1.1 5, m2, rfl, THI_tr FRo_rf ⟨hN.2.2.2.1, hNn⟩ (Int.le_refl _) p2 (by omega) (by omega), rfl, MFI_tr (MI_7 n2) (MFI_B (Or.inl w2))⟩

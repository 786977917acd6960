/-! THE READER: a fact of numbers -/
/-- the twin's ends with a fault or a bad token -/
theorem rdF3 {m m4 : Mu} {K P : Int} {n : Nat} (hK : 1 ≤ K ∧ K ≤ 6) (h : MFI m m4 K P) (hn : n < 8) : ∃ m', ((mald m4 17 112 n).bind fun x18 => (m5_wantsNumber (x18 + 1) 999999999 m4).bind fun q19 => (mast q19.2 18 112 n q19.1).bind fun u20 => m5_readFact_b208 u20) = some m' ∧ MFI m m' K P := by
  rw [mald_e n rfl (by omega) (by omega), Option.bind_some]
  obtain ⟨m5, e5, h5⟩ := wN_any (lo := m4.2 17 n + 1) (hi := 999999999) hK h
  rw [e5, Option.bind_some]
  dsimp only
  rw [mast_e n rfl (by omega) (by omega), Option.bind_some]
  exact b208_f hK (MFI_ma h5 (by decide) (Or.inr (show n < wid 18 from hn)))
theorem rdF2 {m m4 : Mu} {K P : Int} {n : Nat} (hK : 1 ≤ K ∧ K ≤ 6) (h : MFI m m4 K P) (hn : n < 8) : ∃ m', ((m5_wantsWord 4 m4).bind fun u17 => (mald u17 17 112 n).bind fun x18 => (m5_wantsNumber (x18 + 1) 999999999 u17).bind fun q19 => (mast q19.2 18 112 n q19.1).bind fun u20 => m5_readFact_b208 u20) = some m' ∧ MFI m m' K P := by
  obtain ⟨m5, e5, h5⟩ := wW_any (v := 4) (by decide) hK h
  rw [e5, Option.bind_some]
  exact rdF3 hK h5 hn
theorem rdF1 {m m4 : Mu} {K P : Int} {n : Nat} (hK : 1 ≤ K ∧ K ≤ 6) (h : MFI m m4 K P) (hn : n < 8) : ∃ m', ((m5_wantsNumber 0 999999999 m4).bind fun q15 => (mast q15.2 17 112 n q15.1).bind fun u16 => (m5_wantsWord 4 u16).bind fun u17 => (mald u17 17 112 n).bind fun x18 => (m5_wantsNumber (x18 + 1) 999999999 u17).bind fun q19 => (mast q19.2 18 112 n q19.1).bind fun u20 => m5_readFact_b208 u20) = some m' ∧ MFI m m' K P := by
  obtain ⟨m5, e5, h5⟩ := wN_any (lo := 0) (hi := 999999999) hK h
  rw [e5, Option.bind_some]
  dsimp only
  rw [mast_e n rfl (by omega) (by omega), Option.bind_some]
  exact rdF2 hK (MFI_ma h5 (by decide) (Or.inr (show n < wid 17 from hn))) hn
/-- one number of the fact's cell is set -/
theorem FNw_s {t : Sg} {N1 b c j : Nat} {x kd k lo hi v : Int} (h : FNw t N1 b c x kd k lo hi) (hj : j = 364 ∨ j = 365) : FNw (zsI t b j v) N1 b c x kd k (if j = 364 then v else lo) (if j = 365 then v else hi) := by
  obtain ⟨h1, a1, a2, a3, a4, a5, a6, a7, a8, a9⟩ := h
  refine ⟨h1, a1, ?_, ?_, ?_, ?_, ?_, a7, a8, a9⟩
  · rw [zsI_I, if_neg (by omega)]; exact a2
  · rw [zsI_I, if_neg (by omega)]; exact a3
  · rw [zsI_I, if_neg (by omega)]; exact a4
  · rw [zsI_I]
    by_cases z : j = 364
    · rw [if_pos ⟨rfl, z.symm⟩, if_pos z]
    · rw [if_neg (fun e => z e.2.symm), if_neg z]; exact a5
  · rw [zsI_I]
    by_cases z : j = 365
    · rw [if_pos ⟨rfl, z.symm⟩, if_pos z]
    · rw [if_neg (fun e => z e.2.symm), if_neg z]; exact a6
theorem R7_s {G : CG} {L : Ly} {t : Sg} {m : Mu} {r b j : Nat} {v : Int} (h : R7 G L t m r) (hb : b ≠ r ∧ b ≠ L.1 3 ∧ b ≠ L.1 100 ∧ b ≠ L.1 101) : R7 G L (zsI t b j v) m r := by
  refine R7_z h (fun q hq => sam_zI ?_) ⟨Nat.le_refl _, fun _ _ => ⟨rfl, rfl⟩⟩
  rcases hq with rfl | rfl | rfl | rfl
  · exact hb.1.symm
  · exact hb.2.1.symm
  · exact hb.2.2.1.symm
  · exact hb.2.2.2.symm
theorem fact_from {G : CG} {L : Ly} {r a N0 n b c : Nat} {κ : Nat → Nat} {t1 t : Sg} {m1 m : Mu} {W : Wv} {x : Int} (IX1 : IX G L r a N0 κ t1 m1 W) (hn : n = nF W) (hn8 : n < 8) (hX : FX G L r n b c t1 m1 t m x 2 0) (hMI : MI m1 m) (h5 : m1.1 5 < m.1 5) : ITM G L r a N0 t1 m1 ((ztg t 8 (some r)).bind fun b28 => bdU (f7_next G (some b28) t) fun q29 => tel q29.1 (fun e30 => xth e30 q29.2) fun x31 => (ztg q29.2 8 (some r)).bind fun b32 => bdU (f7_number G (some b32) 0 999999999 q29.2) fun q33 => tel q33.1 (fun e34 => xth e34 q33.2) fun x35 => (pfI G.2.2.2.1 q33.2 10 364 (some b) x35).bind fun u36 => (ztg u36 8 (some r)).bind fun b37 => (f7_is G (some b37) 29807 u36).bind fun x38 => if (w32 x38) = 0 then bdU (zNew u36 9 8) fun q49 => (gfI q49.2 8 282 (some r)).bind fun x50 => (f8_init G (some q49.1) 2 x50 q49.2).bind fun u51 => xth q49.1 u51 else (ztg u36 8 (some r)).bind fun b39 => bdU (f7_next G (some b39) u36) fun q40 => tel q40.1 (fun e41 => xth e41 q40.2) fun x42 => (gfI q40.2 10 364 (some b)).bind fun x43 => (ztg q40.2 8 (some r)).bind fun b44 => bdU (f7_number G (some b44) (x43 + 1) 999999999 q40.2) fun q45 => tel q45.1 (fun e46 => xth e46 q45.2) fun x47 => (pfI G.2.2.2.1 q45.2 10 365 (some b) x47).bind fun u48 => f7_fact_b193 G (some r) (some b) u48) ((m5_next m).bind fun u14 => (m5_wantsNumber 0 999999999 u14).bind fun q15 => (mast q15.2 17 112 n q15.1).bind fun u16 => (m5_wantsWord 4 u16).bind fun u17 => (mald u17 17 112 n).bind fun x18 => (m5_wantsNumber (x18 + 1) 999999999 u17).bind fun q19 => (mast q19.2 18 112 n q19.1).bind fun u20 => m5_readFact_b208 u20) := by
  obtain ⟨⟨hR, hc, hfr, h287⟩, ⟨hM, h4⟩, hF, hx, h14, h15⟩ := hX
  have hN := IX1.2.2.2.2.2
  have hNn := hN.2.2.2.2
  have hr1 : r < zN t1 := IX1.1.1.2.1.2.1
  have hG1 : G0 G ≤ zN t1 := IX1.1.1.2.1.1
  have hL1 := IX1.1.1.2.1.2.2
  have hNt : N0 ≤ zN t := by have := hfr.1.1; omega
  have hb1 := hF.1.1
  have hbb : b ≠ r ∧ b ≠ L.1 3 ∧ b ≠ L.1 100 ∧ b ≠ L.1 101 := ⟨by omega, by omega, by omega, by omega⟩
  have hGb : G0 G ≤ b := by omega
  have FRt : FRo N0 t1 t := FRo_7 hN.2.2.2.1 hNn hfr
  rw [ztg_e hR.1.1.1, Option.bind_some]
  obtain ⟨m2, n1, n2, n3⟩ := next8 hR h4 (by omega)
  rw [n1, Option.bind_some]
  have MI2 : MI m1 m2 := MI_tr hMI (MI_7 n2)
  rcases n3 with ⟨t2, p1, p2⟩ | ⟨e, t2, p1, p2, p3, p4, p5, p6⟩
  · rw [p1, te_ok]
    dsimp only
    obtain ⟨f1, f2, f3, f4, f5, f6, f7, f8⟩ := p2
    obtain ⟨F2, -⟩ := FNw_k hF f3 hr1
    have fr2 := fr7_tr hfr f3
    have FR2 : FRo N0 t1 t2 := FRo_7 hN.2.2.2.1 hNn fr2
    have hN2 : N0 ≤ zN t2 ∧ N0 ≤ r := ⟨by omega, hNn⟩
    rw [ztg_e f1.1.1.1, Option.bind_some]
    obtain ⟨v, m3, v1, v2⟩ := number7 f1 (by omega) (lo := 0) (hi := 999999999) (by omega) (by omega)
    rw [v1, Option.bind_some]
    dsimp only
    rw [mast_e n rfl (by omega) (by omega), Option.bind_some]
    rcases v2 with ⟨t3, u1, u2, u3, u4⟩ | ⟨e, t3, K, P, u1, u2, u3⟩
    · rw [u1, te_ok]
      dsimp only
      obtain ⟨g1, g2, g3, g4, g5, g6, g7, g8⟩ := u2
      obtain ⟨F3, -⟩ := FNw_k F2 g3 hr1
      rw [pfI_e F3.2.1 hGb, Option.bind_some]
      have F4 := FNw_s (j := 364) (v := v) F3 (Or.inl rfl)
      have R4 := R7_s (j := 364) (v := v) g1 hbb
      obtain ⟨t4, ht4⟩ : ∃ t4, t4 = zsI t3 b 364 v := ⟨_, rfl⟩
      rw [← ht4] at F4 R4 ⊢
      rw [if_pos rfl, if_neg (by decide)] at F4
      have fr4 : fr7 r t1 t4 := by rw [ht4]; exact fr7_zsI (fr7_tr fr2 g3) hb1 hbb.1.symm
      have z287 : zI t4 r 287 = 0 := by rw [ht4, zsI_I, if_neg (fun e => hbb.1 e.1.symm), g5 287 (by omega), f5 287 (by omega)]; exact h287
      obtain ⟨m4, hm4⟩ : ∃ m4, m4 = ma m3 17 n v := ⟨_, rfl⟩
      rw [← hm4]
      have e41 : m4.1 = m3.1 := by rw [hm4]; rfl
      have R4m : R7 G L t4 m4 r := R7_a R4 e41 (by rw [hm4, ma_o (by decide)]) (by rw [hm4, ma_o (by decide)])
      have M4 : MNw n m1 m4 := by rw [hm4]; exact MNw_a (MNw_n (MNw_n hM (by omega) f7 f8) (by omega) g7 g8) (by omega)
      have MI4 : MI m1 m4 := MI_tr MI2 (MI_tr (MI_7 (m' := m3) ⟨fun k hk => g8 k (by simp only [CS7, List.mem_cons, List.not_mem_nil, or_false] at hk; omega), fun k _ => by rw [g7]⟩) (by rw [hm4]; exact MI_ma (by decide) (Or.inr (show n < wid 17 from hn8))))
      have FR4 : FRo N0 t1 t4 := FRo_7 hN.2.2.2.1 hNn fr4
      have N4 : zN t4 = zN t3 := by rw [ht4]; rfl
      have hN4 : N0 ≤ zN t4 ∧ N0 ≤ r := ⟨by omega, hNn⟩
      have c4 : m4.1 52 ≤ m4.1 5 := by rw [e41]; exact g2
      have a417 : m4.2 17 n = v := by rw [hm4, ma_s, if_pos rfl]
      have w4 : m1.1 5 ≤ m4.1 5 := M4.2.1
      rw [ztg_e R4m.1.1.1, Option.bind_some, c_is R4m (j := 4) (by decide) (show (29807 : Int) = (enc 256 (wdC 4) : Nat) by decide), Option.bind_some, w32_b2i]
      by_cases z : m4.1 4 = 4 ∧ m4.1 7 = ((4 : Nat) : Int)
      · rw [decide_eq_true z, if_neg (by decide), Option.bind_some]
        obtain ⟨m5, y1, y2, y3⟩ := next8 R4m (by omega) (by omega)
        have eW : m5_wantsWord 4 m4 = some m5 := by
          unfold m5_wantsWord
          rw [R4m.2.2.2.2.2, if_pos (by decide), m_w7 R4m 4 (by decide), Option.bind_some, w32_b2i, decide_eq_true (show m4.1 4 = 4 ∧ m4.1 7 = 4 from z), if_neg (by decide), y1]; rfl
        rw [eW, Option.bind_some]
        have MI5 : MI m1 m5 := MI_tr MI4 (MI_7 y2)
        rcases y3 with ⟨t5, s1, s2⟩ | ⟨e, t5, s1, s2, s3, s4, s5, s6⟩
        · rw [s1, te_ok]
          dsimp only
          obtain ⟨d1, d2, d3, d4, d5, d6, d7, d8⟩ := s2
          obtain ⟨F5, -⟩ := FNw_k F4 d3 hr1
          have fr5 := fr7_tr fr4 d3
          have FR5 : FRo N0 t1 t5 := FRo_7 hN.2.2.2.1 hNn fr5
          have hN5 : N0 ≤ zN t5 ∧ N0 ≤ r := ⟨by omega, hNn⟩
          have a517 : m5.2 17 n = v := by rw [d7]; exact a417
          have e517 : mald m5 17 112 n = some v := by rw [mald_e n rfl (by omega) (by omega), a517]
          rw [gfI_v F5.2.1 F5.2.2.2.2.2.1, Option.bind_some, ztg_e d1.1.1.1, Option.bind_some, e517, Option.bind_some]
          obtain ⟨w, m6, x1, x2⟩ := number7 d1 (by omega) (lo := v + 1) (hi := 999999999) (by omega) (by omega)
          rw [x1, Option.bind_some]
          dsimp only
          rw [mast_e n rfl (by omega) (by omega), Option.bind_some]
          rcases x2 with ⟨t6, i1, i2, i3, i4⟩ | ⟨e, t6, K, P, i1, i2, i3⟩
          · rw [i1, te_ok]
            dsimp only
            obtain ⟨j1, j2, j3, j4, j5, j6, j7, j8⟩ := i2
            obtain ⟨F6, -⟩ := FNw_k F5 j3 hr1
            rw [pfI_e F6.2.1 hGb, Option.bind_some]
            have F7 := FNw_s (j := 365) (v := w) F6 (Or.inr rfl)
            have R7' := R7_s (j := 365) (v := w) j1 hbb
            obtain ⟨t7, ht7⟩ : ∃ t7, t7 = zsI t6 b 365 w := ⟨_, rfl⟩
            rw [← ht7] at F7 R7' ⊢
            rw [if_neg (by decide), if_pos rfl] at F7
            have fr7' : fr7 r t1 t7 := by rw [ht7]; exact fr7_zsI (fr7_tr fr5 j3) hb1 hbb.1.symm
            obtain ⟨m7, hm7⟩ : ∃ m7, m7 = ma m6 18 n w := ⟨_, rfl⟩
            rw [← hm7]
            have e71 : m7.1 = m6.1 := by rw [hm7]; rfl
            have a7 : ∀ k, k ≠ 17 → k ≠ 18 → m7.2 k = m.2 k := fun k h1 h2 => by rw [hm7, ma_o h2, j7, d7, hm4, ma_o h1, g7, f7]
            have g717 : m7.2 17 n = v := by rw [hm7, ma_o (by decide), j7, d7]; exact a417
            have g718 : m7.2 18 n = w := by rw [hm7, ma_s, if_pos rfl]
            have M7 : MNw n m1 m7 := by rw [hm7]; exact MNw_a (MNw_n (MNw_n M4 (by omega) d7 d8) (by omega) j7 j8) (by omega)
            have MI7' : MI m1 m7 := MI_tr MI5 (MI_tr (MI_7 (m' := m6) ⟨fun k hk => j8 k (by simp only [CS7, List.mem_cons, List.not_mem_nil, or_false] at hk; omega), fun k _ => by rw [j7]⟩) (by rw [hm7]; exact MI_ma (by decide) (Or.inr (show n < wid 18 from hn8))))
            refine ITM_tr0 (t1 := t7) (m1 := m7) (FRo_7 hN.2.2.2.1 hNn fr7') MI7' M7.2.1 ?_
            refine fact_end IX1 hn hn8 (R7_a R7' e71 (by rw [hm7, ma_o (by decide)]) (by rw [hm7, ma_o (by decide)])) (by rw [e71]; exact j2) fr7' ?_ M7 (x := x) (b := b) (c := c) ?_ ?_ ?_ ?_
            · rw [ht7, zsI_I, if_neg (fun e => hbb.1 e.1.symm), j5 287 (by omega), d5 287 (by omega)]; exact z287
            · rw [a7 14 (by decide) (by decide), a7 15 (by decide) (by decide), h14, h15, g717, g718]; exact F7
            · rw [a7 13 (by decide) (by decide)]; exact hx
            · rw [a7 14 (by decide) (by decide), a7 15 (by decide) (by decide), h14, h15, g717, g718]; omega
            · intro j hj
              rw [a7 15 (by decide) (by decide), h15] at hj; omega
          · right
            have hle := TH_K i2
            rw [i1, xt_tel i2.1]
            obtain ⟨m', z1, z2⟩ := b208_f (m := m1) (K := K) (P := P) i2.2.1.2 (MFI_ma (MFI_tr MI5 (MFI_B i3)) (show 18 ∈ AI7 by decide) (Or.inr (show n < wid 18 from hn8)) (v := w))
            exact ⟨e, t6, 1, 8, K, P, m', rfl, THI_tr FR5 hN5 (by omega) i2 (by omega) (by omega), z1, z2⟩
        · right
          have hle := TH_K s2
          rw [s1, xt_tel s2.1]
          obtain ⟨m', z1, z2⟩ := rdF3 (m := m1) (m4 := m5) (K := 1) (P := m5.1 5) (n := n) (by decide) ⟨Or.inr ⟨rfl, s4, s3, rfl⟩, MI5⟩ hn8
          exact ⟨e, t5, 1, 8, 1, m5.1 5, m', rfl, THI_tr FR4 hN4 (by omega) s2 (by omega) (by omega), z1, z2⟩
      · rw [decide_eq_false z, if_pos (by rfl)]
        right
        have K4 := tk_w R4m.2.2.1
        obtain ⟨t', e, hth⟩ := c_throw (α := Unit) R4m 2
        obtain ⟨m5, em, hm⟩ := m_cannot R4m.2.2.2.2.2 K4.1.2.2.1
        rw [if_neg (show ¬ m4.1 4 = 5 by have := K4.1.2.1; omega)] at hm
        have eW : m5_wantsWord 4 m4 = some m5 := by
          unfold m5_wantsWord
          rw [R4m.2.2.2.2.2, if_pos (by decide), m_w7 R4m 4 (by decide), Option.bind_some, w32_b2i, decide_eq_false (show ¬ (m4.1 4 = 4 ∧ m4.1 7 = 4) from z), if_pos (by rfl), em]; rfl
        rw [eW, Option.bind_some]
        obtain ⟨m', z1, z2⟩ := rdF3 (m := m1) (m4 := m5) (K := 2) (P := m4.1 5) (n := n) (by decide) (MFI_tr MI4 (MFI_B (Or.inl hm))) hn8
        exact ⟨_, t', 1, 8, 2, m4.1 5, m', e, THI_tr FR4 hN4 (by omega) hth (by omega) (by omega), z1, z2⟩
    · right
      have hle := TH_K u2
      rw [u1, xt_tel u2.1]
      obtain ⟨m', z1, z2⟩ := rdF2 (m := m1) (m4 := ma m3 17 n v) (K := K) (P := P) (n := n) u2.2.1.2 (MFI_ma (MFI_tr MI2 (MFI_B u3)) (by decide) (Or.inr (show n < wid 17 from hn8))) hn8
      exact ⟨e, t3, 1, 8, K, P, m', rfl, THI_tr FR2 hN2 (by omega) u2 (by omega) (by omega), z1, z2⟩
  · right
    have hle := TH_K p2
    rw [p1, xt_tel p2.1]
    obtain ⟨m', z1, z2⟩ := rdF1 (m := m1) (m4 := m2) (K := 1) (P := m2.1 5) (n := n) (by decide) ⟨Or.inr ⟨rfl, p4, p3, rfl⟩, MI2⟩ hn8
    exact ⟨e, t2, 1, 8, 1, m2.1 5, m', rfl, THI_tr FRt ⟨hNt, hNn⟩ (by omega) p2 (by omega) (by omega), z1, z2⟩

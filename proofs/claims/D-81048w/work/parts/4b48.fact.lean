/-! THE READER: a fact -/
theorem map_2 {β : Type} (x : Option (β × Nat × Nat)) : ((x.map fun r => (r.1, r.2.1 + 1, r.2.2 + 6)).map fun r => (r.1, r.2.1 + 1, r.2.2 + 6)) = x.map fun r => (r.1, r.2.1 + 2, r.2.2 + 12) := by cases x <;> rfl
theorem fact7 {G : CG} {L : Ly} {r a N0 : Nat} {κ : Nat → Nat} {t : Sg} {m : Mu} {W : Wv} (h : IX G L r a N0 κ t m W) (h4 : m.1 4 = 4) : ITM G L r a N0 t m (f7_fact G (some r) t) ((m5_next m).bind fun u16 => (m5_readFact u16).bind fun u17 => some u17) := by
  obtain ⟨⟨hR, hc, h287, h286⟩, hWB, hCV, ⟨h51, h46, hJ⟩, hSt, hN⟩ := id h
  have hsl : slc m 0 = W := hWB.2.1.1
  have b12 : W 12 0 = (nF W : Int) := hWB.2.1.2.1
  have b8 : nF W ≤ 8 := hWB.2.1.2.2.1
  obtain ⟨n, hn⟩ : ∃ n, n = nF W := ⟨_, rfl⟩
  rw [← hn] at b12 b8
  have e12 : m.2 12 0 = (n : Int) := by
    have : slc m 0 12 0 = (n : Int) := by rw [hsl, b12]
    exact this
  have hNn := hN.2.2.2.2
  unfold f7_fact
  rw [ztg_e hR.1.1.1, Option.bind_some]
  obtain ⟨m1, n1, n2, n3⟩ := next8 hR (by omega) (by omega)
  rw [n1, Option.bind_some, bind_id7]
  unfold m5_readFact
  have a112 : m1.2 12 0 = (n : Int) := by rw [n2.2 12 (by decide)]; exact e12
  have e112 : mald m1 12 14 0 = some (n : Int) := by rw [mald_e (i := 0) 0 rfl (by omega) (by omega), a112]
  rw [e112, Option.bind_some]
  rcases n3 with ⟨t1, p1, p2⟩ | ⟨e, t1, p1, p2, p3, p4, p5, p6⟩
  · rw [p1, te_ok]
    dsimp only
    have IX1 := IX_n h p2
    obtain ⟨f1, f2, f3, f4, f5, f6, f7, f8⟩ := p2
    have FR1 : FRo N0 t t1 := FRo_7 hN.2.2.2.1 hNn f3
    have hN1 : N0 ≤ zN t1 ∧ N0 ≤ r := ⟨by omega, hNn⟩
    rw [ztg_e f1.1.1.1, Option.bind_some]
    rcases newName7 IX1 (v1 := (n : Int)) (v2 := 8) with ⟨e, t2, K, m2, x1, x2, x3, x4⟩ | ⟨x, x1, x2, x3, x4⟩
    · right
      have hK := x2.2.1.2
      rw [x1, xt_tel x2.1, x3, Option.bind_some, x4.1, w32_id (x := K) (by omega) (by omega), if_neg (by omega)]
      exact ⟨e, t2, 1, 8, K, m1.1 5, m2, rfl, THI_tr FR1 hN1 (by omega) x2 (by omega) (by omega), rfl, MFI_tr (MI_7 n2) (MFI_B (Or.inl x4))⟩
    · rw [x1, te_ok, x4]
      dsimp only
      obtain ⟨e3, ⟨l, b, q1, q2, q3, q4, q5, q6, q7⟩, Q3⟩ := IX1.2.1.2.2.1
      rw [← hn] at q2
      rw [gfR_v f1.1.1.1 IX1.1.2.2.2, Option.bind_some, gfR_v IX1.2.1.1.1.2.1 q1, Option.bind_some, ztg_e q2.1, Option.bind_some, J_size q2, Option.bind_some, w32_n (show n < 2147483648 by omega), show w32 8 = 8 from rfl]
      by_cases z : n = 8
      · rw [if_pos (show (n : Int) = 8 by omega), if_pos (show (n : Int) = 8 by omega)]
        right
        obtain ⟨t', e, hth⟩ := c_throw (α := Unit) f1 6
        obtain ⟨m', em, hm, -⟩ := m_wrong f1.2.2.2.2.2 6
        rw [em, Option.bind_some, Option.bind_some, hm.1, if_neg (by decide)]
        exact ⟨_, t', 1, 8, 6, m1.1 5, m', e, THI_tr FR1 hN1 (by omega) hth (by omega) (by omega), rfl, MFI_tr (MI_7 n2) (MFI_B (Or.inl hm))⟩
      · have hn8 : n < 8 := by omega
        rw [if_neg (show ¬ (n : Int) = 8 by omega), if_neg (show ¬ (n : Int) = 8 by omega), Option.bind_some, f1.2.2.2.2.2, if_pos (show w32 0 ≤ 0 by decide), e112, Option.bind_some, mast_e n rfl (by omega) (by omega), Option.bind_some, mast_e n rfl (by omega) (by omega), Option.bind_some]
        have e212 : mald (ma (ma m1 13 n (m1.1 6)) 15 n 0) 12 14 0 = some (n : Int) := by rw [mald_e (i := 0) 0 rfl (by omega) (by omega), ma_o (by decide), ma_o (by decide), a112]
        rw [e212, Option.bind_some, mast_e (i := 0) 0 rfl (by omega) (by omega), Option.bind_some, ztg_e f1.1.1.1, Option.bind_some]
        obtain ⟨m2, hm2⟩ : ∃ m2, m2 = ma (ma (ma m1 13 n (m1.1 6)) 15 n 0) 12 0 ((n : Int) + 1) := ⟨_, rfl⟩
        rw [← hm2]
        have e21 : m2.1 = m1.1 := by rw [hm2]; rfl
        have a2 : ∀ k, k ≠ 12 → k ≠ 13 → k ≠ 15 → m2.2 k = m1.2 k := fun k h1 h2 h3 => by rw [hm2, ma_o h1, ma_o h3, ma_o h2]
        have M2 : MNw n m1 m2 := by
          refine ⟨fun k _ => by rw [e21], by rw [e21]; exact Int.le_refl _, fun k hk => a2 k (by omega) (by omega) (by omega), fun k i h1 h2 hi => ?_, fun i _ => by rw [a2 16 (by decide) (by decide) (by decide)], by rw [hm2, ma_s, if_pos rfl]⟩
          rw [hm2, ma_o h1, ma_2]
          by_cases z15 : k = 15
          · rw [if_pos z15, up_o hi, z15, ma_o (by decide)]
          · rw [if_neg z15, ma_2]
            by_cases z13 : k = 13
            · rw [if_pos z13, up_o hi, z13]
            · rw [if_neg z13]
        have MI2 : MI m1 m2 := by
          rw [hm2]
          exact MI_tr (MI_tr (MI_ma (by decide) (Or.inr (show n < wid 13 from hn8))) (MI_ma (by decide) (Or.inr (show n < wid 15 from hn8)))) (MI_ma (by decide) (Or.inr (by decide)))
        have R2 : R7 G L t1 m2 r := R7_a f1 e21 (a2 0 (by decide) (by decide) (by decide)) (a2 1 (by decide) (by decide) (by decide))
        have g213 : m2.2 13 n = m1.1 6 := by rw [hm2, ma_o (by decide), ma_o (by decide), ma_s, if_pos rfl]
        have g215 : m2.2 15 n = 0 := by rw [hm2, ma_o (by decide), ma_s, if_pos rfl]
        obtain ⟨m3, y1, y2, y3⟩ := next8 R2 (by rw [e21]; omega) (by rw [e21]; omega)
        rw [y1, Option.bind_some]
        rw [e21] at y3
        have MI3 : MI m1 m3 := MI_tr MI2 (MI_7 y2)
        have MIm3 : MI m m3 := MI_tr (MI_7 n2) MI3
        rcases y3 with ⟨t2, s1, s2⟩ | ⟨e, t2, s1, s2, s3, s4, s5, s6⟩
        · rw [s1, te_ok]
          dsimp only
          obtain ⟨g1, g2, g3, g4, g5, g6, g7, g8⟩ := s2
          rw [e21] at g6
          have FR2 : FRo N0 t t2 := FRo_tr FR1 (FRo_7 hN1.1 hNn g3)
          have hN2 : N0 ≤ zN t2 ∧ N0 ≤ r := ⟨by omega, hNn⟩
          have M3 : MNw n m1 m3 := MNw_n M2 (by rw [e21]; omega) g7 g8
          have y287 : zI t2 r 287 = 0 := by rw [g5 287 (by omega), f5 287 (by omega)]; exact h287
          -- the cells of a fact of the kind kd
          have mkC : ∀ kd : Nat, kd < 3 → ∀ mk : Mu, mk.1 = m3.1 → MNw n m1 mk → mk.2 0 = m3.2 0 → mk.2 1 = m3.2 1 → mk.2 13 = m3.2 13 → mk.2 15 = m3.2 15 → mk.2 14 n = kd → m3.1 4 ≠ 0 → ∃ t3, f9_init G (some (zN t2)) x kd (znew t2 10 0) = some (t3, 1, 6) ∧ FX G L r n (zN t2) (zN t2 + 1) t1 m1 t3 mk x kd (if kd = 0 then 1 else 0) := fun kd hkd mk k1 k2 k3 k4 k5 k6 k7 k8 => by
            obtain ⟨t3, e1, e2, e3, e4, e5⟩ := new10 g1 x hkd
            refine ⟨t3, e1, ⟨R7_a (R7_k g1 e2 (fun j _ => e3 j)) k1 k3 k4, by rw [k1]; exact g2, fr7_tr g3 e2, by rw [e3]; exact y287⟩, ⟨k2, by rw [k1]; exact k8⟩, ?_, by rw [k5, g7, g213]; exact x2, k7, by rw [k6, g7]; exact g215⟩
            obtain ⟨⟨w1, w2, w3, w4, w5⟩, w6⟩ := e4
            exact ⟨⟨by omega, w2, by omega, w4, w5⟩, w6⟩
          simp only [ztg_e g1.1.1.1, Option.bind_some]
          rw [c_is g1 (j := 1) (by decide) (show (7955827 : Int) = (enc 256 (wdC 1) : Nat) by decide), Option.bind_some, w32_b2i, m_w7 g1 1 (by decide), Option.bind_some, w32_b2i]
          by_cases z1 : m3.1 4 = 4 ∧ m3.1 7 = 1
          · have z1' : m3.1 4 = 4 ∧ m3.1 7 = ((1 : Nat) : Int) := z1
            rw [decide_eq_true z1, decide_eq_true z1', if_neg (by decide), if_neg (by decide), mast_e n rfl (by omega) (by omega), Option.bind_some, mast_e n rfl (by omega) (by omega), Option.bind_some, mast_e n rfl (by omega) (by omega), Option.bind_some]
            obtain ⟨m4, hm4⟩ : ∃ m4, m4 = ma (ma (ma m3 14 n 0) 17 n 0) 18 n 1 := ⟨_, rfl⟩
            rw [← hm4]
            have a4 : ∀ k, k ≠ 14 → k ≠ 17 → k ≠ 18 → m4.2 k = m3.2 k := fun k h1 h2 h3 => by rw [hm4, ma_o h3, ma_o h2, ma_o h1]
            have M4 : MNw n m1 m4 := by rw [hm4]; exact MNw_a (MNw_a (MNw_a M3 (by omega)) (by omega)) (by omega)
            obtain ⟨t3, e1, hX⟩ := mkC 0 (by omega) m4 (by rw [hm4]; rfl) M4 (a4 0 (by decide) (by decide) (by decide)) (a4 1 (by decide) (by decide) (by decide)) (a4 13 (by decide) (by decide) (by decide)) (a4 15 (by decide) (by decide) (by decide)) (by rw [hm4, ma_o (by decide), ma_o (by decide), ma_s, if_pos rfl]; rfl) (by omega)
            have key := fact_yes IX1 hn hn8 hX (by rw [hm4, ma_o (by decide), ma_s, if_pos rfl]) (by rw [hm4, ma_s, if_pos rfl])
            have MI4 : MI m m4 := MI_tr MIm3 (by rw [hm4]; exact MI_tr (MI_tr (MI_ma (by decide) (Or.inr (show n < wid 14 from hn8))) (MI_ma (by decide) (Or.inr (show n < wid 17 from hn8)))) (MI_ma (by decide) (Or.inr (show n < wid 18 from hn8))))
            have e45 : m4.1 5 = m3.1 5 := by rw [hm4]; rfl
            have key2 := ITM_tr (c := 2) (n := 12) (FRo_tr FR1 (FRo_7 hN1.1 hNn hX.1.2.2.1)) MI4 (by omega) (by omega) (by omega) key
            show ITM G L r a N0 t m ((bdU (f9_init G (some (zN t2)) x 0 (znew t2 10 0)) _).map _) _
            rw [show (0 : Int) = ((0 : Nat) : Int) from rfl, e1, bdU_e]
            rw [← map_2] at key2
            exact key2
          · have z1' : ¬ (m3.1 4 = 4 ∧ m3.1 7 = ((1 : Nat) : Int)) := z1
            rw [decide_eq_false z1, decide_eq_false z1', if_pos (by rfl), if_pos (by rfl), c_is g1 (j := 2) (by decide) (show (7302757 : Int) = (enc 256 (wdC 2) : Nat) by decide), Option.bind_some, w32_b2i, m_w7 g1 2 (by decide), Option.bind_some, w32_b2i]
            by_cases z2 : m3.1 4 = 4 ∧ m3.1 7 = 2
            · have z2' : m3.1 4 = 4 ∧ m3.1 7 = ((2 : Nat) : Int) := z2
              rw [decide_eq_true z2, decide_eq_true z2', if_neg (by decide), if_neg (by decide), mast_e n rfl (by omega) (by omega), Option.bind_some]
              obtain ⟨m4, hm4⟩ : ∃ m4, m4 = ma m3 14 n 1 := ⟨_, rfl⟩
              rw [← hm4]
              have a4 : ∀ k, k ≠ 14 → m4.2 k = m3.2 k := fun k h1 => by rw [hm4, ma_o h1]
              have M4 : MNw n m1 m4 := by rw [hm4]; exact MNw_a M3 (by omega)
              obtain ⟨t3, e1, hX⟩ := mkC 1 (by omega) m4 (by rw [hm4]; rfl) M4 (a4 0 (by decide)) (a4 1 (by decide)) (a4 13 (by decide)) (a4 15 (by decide)) (by rw [hm4, ma_s, if_pos rfl]; rfl) (by omega)
              have e45 : m4.1 5 = m3.1 5 := by rw [hm4]; rfl
              obtain ⟨X, Y, key, kX, kY⟩ := fact_one IX1 hn hn8 hX (MI_tr MI3 (by rw [hm4]; exact MI_ma (by decide) (Or.inr (show n < wid 14 from hn8)))) (by omega)
              have key2 := ITM_tr (c := 2) (n := 12) FR1 (MI_7 n2) (by omega) (by omega) (by omega) key
              show ITM G L r a N0 t m ((bdU (f9_init G (some (zN t2)) x 1 (znew t2 10 0)) _).map _) _
              rw [show (1 : Int) = ((1 : Nat) : Int) from rfl, e1, bdU_e]
              rw [← map_2, ← kX, ← kY] at key2
              exact key2
            · have z2' : ¬ (m3.1 4 = 4 ∧ m3.1 7 = ((2 : Nat) : Int)) := z2
              rw [decide_eq_false z2, decide_eq_false z2', if_pos (by rfl), if_pos (by rfl), c_is g1 (j := 3) (by decide) (show (1718775661 : Int) = (enc 256 (wdC 3) : Nat) by decide), Option.bind_some, w32_b2i, m_w7 g1 3 (by decide), Option.bind_some, w32_b2i]
              by_cases z3 : m3.1 4 = 4 ∧ m3.1 7 = 3
              · have z3' : m3.1 4 = 4 ∧ m3.1 7 = ((3 : Nat) : Int) := z3
                rw [decide_eq_true z3, decide_eq_true z3', if_neg (by decide), if_neg (by decide), mast_e n rfl (by omega) (by omega), Option.bind_some]
                obtain ⟨m4, hm4⟩ : ∃ m4, m4 = ma m3 14 n 2 := ⟨_, rfl⟩
                rw [← hm4]
                have a4 : ∀ k, k ≠ 14 → m4.2 k = m3.2 k := fun k h1 => by rw [hm4, ma_o h1]
                have M4 : MNw n m1 m4 := by rw [hm4]; exact MNw_a M3 (by omega)
                obtain ⟨t3, e1, hX⟩ := mkC 2 (by omega) m4 (by rw [hm4]; rfl) M4 (a4 0 (by decide)) (a4 1 (by decide)) (a4 13 (by decide)) (a4 15 (by decide)) (by rw [hm4, ma_s, if_pos rfl]; rfl) (by omega)
                have e45 : m4.1 5 = m3.1 5 := by rw [hm4]; rfl
                have key := fact_from IX1 hn hn8 hX (MI_tr MI3 (by rw [hm4]; exact MI_ma (by decide) (Or.inr (show n < wid 14 from hn8)))) (by omega)
                have key2 := ITM_tr (c := 2) (n := 12) FR1 (MI_7 n2) (by omega) (by omega) (by omega) key
                show ITM G L r a N0 t m ((bdU (f9_init G (some (zN t2)) x 2 (znew t2 10 0)) _).map _) _
                rw [show (2 : Int) = ((2 : Nat) : Int) from rfl, e1, bdU_e]
                rw [← map_2] at key2
                exact key2
              · have z3' : ¬ (m3.1 4 = 4 ∧ m3.1 7 = ((3 : Nat) : Int)) := z3
                rw [decide_eq_false z3, decide_eq_false z3', if_pos (by rfl), if_pos (by rfl)]
                right
                have K4 := tk_w g1.2.2.1
                obtain ⟨t', e, hth⟩ := c_throw (α := Unit) g1 2
                obtain ⟨m', em, hm⟩ := m_cannot g1.2.2.2.2.2 K4.1.2.2.1
                rw [if_neg (show ¬ m3.1 4 = 5 by have := K4.1.2.1; omega)] at hm
                rw [em, Option.bind_some]
                obtain ⟨m'', w1, w2⟩ := b208_f (m := m) (m2 := m') (K := 2) (P := m3.1 5) (by decide) (MFI_tr MIm3 (MFI_B (Or.inl hm)))
                exact ⟨_, t', 1, 8, 2, m3.1 5, m'', e, THI_tr FR2 hN2 (by omega) hth (by omega) (by omega), w1, w2⟩
        · right
          have hle := TH_K s2
          rw [s1, xt_tel s2.1]
          have w5 : w32 (m3.1 4) = m3.1 4 := by rw [s3]; decide
          obtain ⟨m', em, hm⟩ := m_cannot s4 w5
          rw [if_pos s3] at hm
          rw [m_isWq 1 (by decide) w5 (fun q => by omega), Option.bind_some, decide_eq_false (by omega), if_pos (by rfl), m_isWq 2 (by decide) w5 (fun q => by omega), Option.bind_some, decide_eq_false (by omega), if_pos (by rfl), m_isWq 3 (by decide) w5 (fun q => by omega), Option.bind_some, decide_eq_false (by omega), if_pos (by rfl), em, Option.bind_some]
          obtain ⟨m'', w1, w2⟩ := b208_f (m := m) (m2 := m') (K := 1) (P := m3.1 5) (by decide) (MFI_tr MIm3 (MFI_B (Or.inl hm)))
          exact ⟨e, t2, 1, 8, 1, m3.1 5, m'', rfl, THI_tr FR1 hN1 (by omega) s2 (by omega) (by omega), w1, w2⟩
  · right
    rw [p1, xt_tel p2.1]
    obtain ⟨m2, w1, w2⟩ := newName_b (v1 := (n : Int)) (v2 := 8) p4 p3
    rw [w1, Option.bind_some, w2.1, if_neg (by decide)]
    exact ⟨e, t1, 1, 8, 1, m1.1 5, m2, rfl, THI_tr FRo_rf ⟨hN.2.2.2.1, hNn⟩ (Int.le_refl _) p2 (by omega) (by omega), rfl, MFI_tr (MI_7 n2) (MFI_B (Or.inl w2))⟩

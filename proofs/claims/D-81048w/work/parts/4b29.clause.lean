/-! THE READER: a clause, whole -/
theorem R7_b {G : CG} {L : Ly} {t : Sg} {m m' : Mu} {r : Nat} (h : R7 G L t m r) (e : ∀ j, j < 9 ∨ j = 47 ∨ j = 52 → m'.1 j = m.1 j) (a0 : m'.2 0 = m.2 0) (a1 : m'.2 1 = m.2 1) : R7 G L t m' r := by
  obtain ⟨h1, h2, h3, h4, h5, h6⟩ := h
  refine ⟨TX_k h1 ⟨h2.2.2.1, h2.2.2.2.1, h2.2.2.2.2.1, h2.2.2.2.2.2⟩ fr7_rf (e 2 (by omega)) a0 a1, h2, ?_, ?_, ?_, ?_⟩
  · unfold TKR
    rw [e 2 (by omega), e 3 (by omega), e 4 (by omega), e 5 (by omega), e 6 (by omega), e 7 (by omega)]
    exact h3
  · rw [e 52 (by omega), e 2 (by omega), e 47 (by omega)]; exact h4
  · rw [e 47 (by omega)]; exact h5
  · rw [e 8 (by omega)]; exact h6
theorem clause_b {G : CG} {L : Ly} {r a N0 l kd : Nat} {κ : Nat → Nat} {t : Sg} {m : Mu} {W : Wv} (h : IX G L r a N0 κ t m W) (h4 : m.1 4 = 4) (hkd : kd < 3) (h7 : m.1 7 = 6 + (kd : Int)) (h56 : m.1 56 < 24) (hl : zR t a 243 = some l) : ITM G L r a N0 t m (bdU (f7_clause_b29 G (some r) kd t) fun q47 => tel q47.1 (fun e48 => xth e48 q47.2) fun x49 => (ztg q47.2 6 (some l)).bind fun b50 => bdU (fJ2_add G (some b50) x49 q47.2) fun q51 => some ((.inr (), q51.2), 0, 0)) (m5_readClause m) := by
  obtain ⟨⟨hR, hc, h287, h286⟩, hWB, hCV, ⟨h51, h46, hJ⟩, hSt, hN⟩ := id h
  obtain ⟨n, hn⟩ : ∃ n : Nat, m.1 56 = (n : Int) := ⟨(m.1 56).toNat, by have := hWB.2.1.2.2.2.2.2.2.2.1; omega⟩
  unfold f7_clause_b29 m5_readClause
  rw [ztg_e hR.1.1.1, Option.bind_some, mast_e n hn (by omega) (by omega), Option.bind_some]
  obtain ⟨m1, hm1⟩ : ∃ m1, m1 = ma m 53 n (m.1 7 - 6) := ⟨_, rfl⟩
  rw [← hm1]
  have e11 : m1.1 = m.1 := by rw [hm1]; rfl
  have R1 : R7 G L t m1 r := R7_a hR e11 (by rw [hm1, ma_o (by decide)]) (by rw [hm1, ma_o (by decide)])
  have MI1 : MI m m1 := by rw [hm1]; exact MI_ma (by decide) (Or.inl rfl)
  obtain ⟨m2, n1, n2, n3⟩ := next8 R1 (by rw [e11]; omega) (by rw [e11]; omega)
  rw [n1, Option.bind_some]
  rw [e11] at n3
  have MI2 : MI m m2 := MI_tr MI1 (MI_7 n2)
  have o56 : m2.1 56 = (n : Int) := by rw [n2.1 56 (by decide), e11]; exact hn
  rw [mast_e n o56 (by omega) (by omega), Option.bind_some]
  obtain ⟨m3, hm3⟩ : ∃ m3, m3 = ma m2 54 n (m2.1 46) := ⟨_, rfl⟩
  rw [← hm3]
  have e31 : m3.1 = m2.1 := by rw [hm3]; rfl
  have MI3 : MI m m3 := MI_tr MI2 (by rw [hm3]; exact MI_ma (by decide) (Or.inl rfl))
  rcases n3 with ⟨t1, p1, p2⟩ | ⟨e, t1, p1, p2, p3, p4, p5, p6⟩
  · obtain ⟨f1, f2, f3, f4, f5, f6, f7, f8⟩ := p2
    rw [e11] at f6
    rw [p1, te_ok]
    dsimp only
    have FR1 : FRo N0 t t1 := FRo_7 hN.2.2.2.1 hN.2.2.2.2 f3
    have hN1 : N0 ≤ zN t1 ∧ N0 ≤ r := ⟨by omega, hN.2.2.2.2⟩
    have R3 : R7 G L t1 m3 r := R7_a f1 e31 (by rw [hm3, ma_o (by decide)]) (by rw [hm3, ma_o (by decide)])
    have a3 : ∀ k, k ≠ 53 → k ≠ 54 → m3.2 k = m.2 k := fun k k1 k2 => by rw [hm3, ma_o k2, f7, hm1, ma_o k1]
    have F3 : mfr CS7 [53, 54] m m3 := ⟨fun k hk => by rw [e31, n2.1 k hk, e11], fun k hk => a3 k (fun e => hk (by rw [e]; decide)) (fun e => hk (by rw [e]; decide))⟩
    have hs3 : slc m3 0 = W := by rw [slc_fr F3 (by decide)]; exact hWB.2.1.1
    have CX3 : CX G L t1 m3 r a 0 W := ⟨R3, by rw [e31]; exact f2, ⟨LK_k (ZO_k f3) f3.1 (WB_LK hWB), by rw [f3.2.2.2.1]; exact h286⟩, ⟨hs3, by omega, by rw [F3.1 51 (by decide)]; exact h51.1⟩, St_k7 hSt hR.2.1.1 hR.1.1.2.1 f3⟩
    have e46 : m3.1 46 = m.1 46 := by rw [e31, f8 46 (by omega), e11]
    have g288 : zI t1 r 288 = m3.1 52 := R3.2.2.2.1.1
    rw [gfI_v f1.1.1.1 g288, Option.bind_some, ztg_e f1.1.1.1, Option.bind_some]
    rcases cond7 CX3 (by rw [f5 287 (by omega)]; exact h287) (by rw [e46]; exact h46) (by rw [e46, e31]; omega) with ⟨c, t2, cc, nn, m4, ns, x1, x2, ⟨x3, x4, x5, x6⟩, ⟨x7, x8, x9, x10, x11⟩, x12, x13, x14⟩ | ⟨e, t2, cc, nn, K, P, m4, x1, x2, x3, x4⟩ | ⟨c, t2, cc, nn, m4, md, x1, x2, x3, x4, x5, x6, x7⟩
    · have n4 : m4.1 56 = (n : Int) := by rw [x6.1 56 (by decide), e31]; exact o56
      rw [x2, Option.bind_some, mast_e n n4 (by omega) (by omega), Option.bind_some, Option.bind_some]
      obtain ⟨m5, hm5⟩ : ∃ m5, m5 = ms (ma m4 55 n (m4.1 46)) 56 ((ma m4 55 n (m4.1 46)).1 56 + 1) := ⟨_, rfl⟩
      rw [← hm5]
      have o5 : ∀ j, j ≠ 56 → m5.1 j = m4.1 j := fun j hj => by rw [hm5, ms_1, if_neg hj]; rfl
      have e556 : m5.1 56 = (n : Int) + 1 := by rw [hm5, ms_1, if_pos rfl]; show m4.1 56 + 1 = _; rw [n4]
      have a5 : ∀ k, k ≠ 55 → m5.2 k = m4.2 k := fun k hk => by rw [hm5, ms_2, ma_o hk]
      have R5 : R7 G L t2 m5 r := R7_b x3.1 (fun j hj => o5 j (by omega)) (a5 0 (by decide)) (a5 1 (by decide))
      have MI5 : MI m m5 := MI_tr MI3 (MI_tr (MI_7 x6) (by rw [hm5]; exact MI_tr (MI_ma (by decide) (Or.inl rfl)) (MI_ms (by decide))))
      have c52 := x3.2.1
      obtain ⟨c1, c2, c3, c4⟩ := x14
      rw [e31] at c1 c3 c4
      obtain ⟨m6, v1, v2⟩ := want7 R5 (by rw [o5 52 (by decide), o5 5 (by decide)]; omega) (j := 6) (by decide) (l := 59) (v := 6) rfl rfl
      rw [v1, Option.bind_some]
      rw [x1, te_okc]
      dsimp only
      rw [ztg_e x3.1.1.1.1, Option.bind_some]
      have FR2 : FRo N0 t t2 := FRo_tr FR1 (FRo_7 hN1.1 hN1.2 x4)
      have hN2 : N0 ≤ zN t2 ∧ N0 ≤ r := ⟨by have := x4.1.1; omega, hN1.2⟩
      rw [o5 5 (by decide)] at v2
      rcases v2 with ⟨t3, u1, u2⟩ | ⟨e, t3, K, P, u1, u2, u3⟩
      · left
        obtain ⟨g1, g2, g3, g4, g5, g6, g7, g8⟩ := u2
        have hrN := g1.2.1.2.1
        have hGN := g1.2.1.1
        obtain ⟨t4, ht4⟩ : ∃ t4, t4 = zsI (zsR (zsI (znew t3 17 0) (zN t3) 640 kd) (zN t3) 641 (some c)) (zN t3) 642 (m6.1 52 - m3.1 52) := ⟨_, rfl⟩
        have T4 : zT t4 (zN t3) = 17 := by rw [ht4]; show zT (znew t3 17 0) (zN t3) = 17; rw [znew_T, if_pos rfl]
        have fr4 : fr7 r t3 t4 := by
          rw [ht4]
          exact fr7_zsI (fr7_zsR (fr7_zsI (fr7_znew fr7_rf hrN) (Nat.le_refl _) (by omega)) (Nat.le_refl _) (by omega)) (Nat.le_refl _) (by omega)
        have N4 : zN t4 = zN t3 + 1 := by rw [ht4]; rfl
        have I4r : ∀ j, zI t4 r j = zI t3 r j := fun j => by rw [ht4, zsI_I, if_neg (fun q => by have := q.1; omega), zsR_I, zsI_I, if_neg (fun q => by have := q.1; omega), znew_I, if_neg (by omega)]
        have s640 : zI t4 (zN t3) 640 = kd := by rw [ht4, zsI_I, if_neg (fun q => absurd q.2 (by decide)), zsR_I, zsI_I, if_pos ⟨rfl, rfl⟩]
        have s642 : zI t4 (zN t3) 642 = m6.1 52 - m3.1 52 := by rw [ht4, zsI_I, if_pos ⟨rfl, rfl⟩]
        have s641 : zR t4 (zN t3) 641 = some c := by rw [ht4]; show zR (zsR (zsI (znew t3 17 0) (zN t3) 640 kd) (zN t3) 641 (some c)) (zN t3) 641 = _; rw [zsR_R, if_pos ⟨rfl, rfl⟩]
        -- the wording before the clause is added
        have W1 : WB G r a N0 κ t1 m3 W := WB_k (KK_7 hWB.1 f3) (KO_7 hWB.1 f3) (slc_fr F3 (by decide)) (by rw [e31, o56, hn]) ⟨by rw [e46]; exact Int.le_refl _, fun k _ => nd_of (fun j hj => a3 j (by omega) (by omega)) k⟩ (fun k hk => by
          rw [hn] at hk
          refine ⟨?_, ?_, by rw [a3 55 (by decide) (by decide)]⟩
          · rw [hm3, ma_o (by decide), f7, hm1, ma_s, if_neg (by omega)]
          · rw [hm3, ma_s, if_neg (by omega), f7, hm1, ma_o (by decide)]) hWB
        have W2 := cond_WB (L := L) W1 x4 x6 (by omega) x9 (by rw [e46]; exact h46)
        have CBn := CB_new (κ := κ) (by rw [e46]; exact h46) x7 x8 x13 x12
        obtain ⟨κ1, hκ1⟩ : ∃ κ1, κ1 = fzn κ (zN t1) (zN t2) := ⟨_, rfl⟩
        rw [← hκ1] at W2 CBn
        have fr24 : fr7 r t2 t4 := fr7_tr g3 fr4
        obtain ⟨K4, KK4⟩ := KO_fzn W2.1 fr24
        obtain ⟨κ2, hκ2⟩ : ∃ κ2, κ2 = fzn κ1 (zN t2) (zN t4) := ⟨_, rfl⟩
        rw [← hκ2] at K4 KK4
        obtain ⟨eq, Lq, Qq⟩ := W2.2.2.2.2.2.1
        have n4' : (m4.1 56).toNat = n := by omega
        rw [n4'] at Lq Qq
        have Lq4 := LBw_k KK4 W2.1.2.2.2.1 W2.1.1.1 (by decide) Lq
        have hN4 : N0 ≤ zN t4 := by omega
        obtain ⟨l', t5, κ5, ca, na, y1, y2, y3, y4, y5, y6, y7, y8, y9, y10, y11, y12⟩ := LBw_add (c := zN t3) K4 (by decide) hN4 Lq4 (by omega) ⟨by rw [T4]; decide, by omega⟩ (by rw [T4]; decide)
        have haN : a < zN t := hWB.1.2.1 a (by rw [hWB.1.1.1]; decide)
        have hane : a ≠ r := fun e => by have := hWB.1.1.1; rw [e, hWB.1.1.2.2] at this; exact absurd this (by decide)
        have fr04 : fr7 r t t4 := fr7_tr f3 (fr7_tr x4 fr24)
        have hll : l' = l := by
          have := (fr04.2.1 a haN hane).2.2.2.1
          rw [this, hl] at y1
          exact (Option.some.inj y1).symm
        subst hll
        have k5x : κ5 (zN t3) = 1 := by
          have h2 : κ2 (zN t3) = 1 := by rw [hκ2]; exact fzn_n ⟨by omega, by omega⟩
          rw [(y9 (zN t3) (by rw [h2]; decide) (by rw [h2]; decide)).2]; exact h2
        have hk5 : ∀ q, κ1 q ≠ 0 → κ1 q ≠ 243 → κ1 q ≠ 3 → sam t2 t5 q ∧ κ5 q = κ1 q := fun q q1 q2 q3 => by
          obtain ⟨s1, e1⟩ := KK4.2 q q1 q3
          obtain ⟨s2, e2⟩ := y9 q (by rw [e1]; exact q1) (by rw [e1]; exact q2)
          exact ⟨sam_tr s1 s2, by rw [e2, e1]⟩
        have hg5 : gro t2 t5 := gro_tr fr24.1 y8
        have kf5 : KF κ1 κ5 t2 t5 := ⟨hg5, fun q hq => by
          obtain ⟨s, e⟩ := hk5 q (by rw [hq]; decide) (by rw [hq]; decide) (by rw [hq]; decide)
          exact ⟨s, by rw [e]; exact hq⟩⟩
        have e6 : ∀ j, (j < 3 ∨ 7 < j) → j ≠ 56 → m6.1 j = m4.1 j := fun j h1 h2 => by rw [g8 j h1, o5 j h2]
        have e646 : m6.1 46 = m4.1 46 := e6 46 (by omega) (by decide)
        have e656 : m6.1 56 = (n : Int) + 1 := by rw [g8 56 (by omega), e556]
        have a6 : ∀ k, k ≠ 55 → m6.2 k = m4.2 k := fun k hk => by rw [g7, a5 k hk]
        have nd6 : ∀ k, ndN m6 k = ndN m4 k := fun k => nd_of (fun j hj => a6 j (by omega)) k
        have a655 : ∀ k, m6.2 55 k = if k = n then m4.1 46 else m4.2 55 k := fun k => by rw [g7, hm5, ms_2, ma_s]
        have hsl6 : slc m6 0 = slc m4 0 := slc_fr (S := SI7) (T := [55]) ⟨fun k hk => e6 k (by simp only [SI7, List.mem_cons, List.not_mem_nil, or_false] at hk; omega) (fun q => hk (by rw [q]; decide)), fun k hk => a6 k (by simpa using hk)⟩ (by decide)
        have hn6 : m4.1 46 ≤ m6.1 46 ∧ ∀ k : Nat, (k : Int) < m4.1 46 → ndN m6 k = ndN m4 k := ⟨by omega, fun k _ => nd6 k⟩
        have m454 : m4.2 54 n = m3.1 46 := by rw [x6.2 54 (by decide), hm3, ma_s, if_pos rfl]; rfl
        have m453 : m4.2 53 n = (kd : Int) := by rw [x6.2 53 (by decide), hm3, ma_o (by decide), f7, hm1, ma_s, if_pos rfl]; omega
        have tN : (m6.1 56).toNat = n + 1 := by omega
        have hWB6 : WB G r a N0 κ5 t5 m6 W := by
          refine WB_q W2 hg5 hk5 y10 hsl6 (by omega) hn6 (by rw [tN]; exact y7) (fun k hk => ?_)
          rw [tN] at hk
          show QB G κ5 t5 m6 W (if k < n then eq k else zN t3) k
          by_cases z : k < n
          · rw [if_pos z]
            exact QB_k kf5 (Nat.le_refl _) (Nat.le_refl _) (fun _ _ => rfl) hn6 ⟨by rw [a6 53 (by decide)], by rw [a6 54 (by decide)], by rw [a655, if_neg (by omega)]⟩ (Qq k z)
          · rw [if_neg z, show k = n by omega]
            unfold QB
            rw [a6 53 (by decide), a6 54 (by decide), a655, if_pos rfl, m453, m454, y12.1, y12.2.2.1, y12.2.2.2.1]
            refine ⟨k5x, T4, s640, by omega, ?_, c, s641, CB_k kf5 (Nat.le_refl _) (fun _ _ => rfl) (Int.le_refl _) hn6 CBn⟩
            rw [s642, e6 52 (by omega) (by decide)]; omega
        have hCV6 : CVR m6 W (m6.1 46) := by
          refine ⟨fun i hi => ?_, ?_⟩
          rotate_left
          · have hs := hCV.2
            unfold SMS at hs ⊢
            rw [hn, Int.toNat_natCast] at hs
            have y : lsm (fun k => m6.2 55 k - m6.2 54 k) n = lsm (fun k => m.2 55 k - m.2 54 k) n := lsm_cg (fun k hk => by
              rw [a655, if_neg (by omega), x6.2 55 (by decide), a3 55 (by decide) (by decide), a6 54 (by decide), x6.2 54 (by decide), hm3, ma_s, if_neg (by omega), f7, hm1, ma_o (by decide)])
            rw [tN, lsm_s, y, a655, if_pos rfl, a6 54 (by decide), m454, e646, e46]
            omega
          rw [e646] at hi
          rw [tN]
          by_cases z : (i : Int) < m.1 46
          · rcases hCV.1 i z with q | ⟨k, q1, q2, q3⟩ | q
            · exact Or.inl q
            · refine Or.inr (Or.inl ⟨k, by omega, ?_, ?_⟩)
              · rw [a6 54 (by decide), x6.2 54 (by decide), hm3, ma_s, if_neg (by omega), f7, hm1, ma_o (by decide)]; exact q2
              · rw [a655, if_neg (by omega), x6.2 55 (by decide), a3 55 (by decide) (by decide)]; exact q3
            · exact Or.inr (Or.inr q)
          · refine Or.inr (Or.inl ⟨n, by omega, ?_, ?_⟩)
            · rw [a6 54 (by decide), m454]; omega
            · rw [a655, if_pos rfl]; exact hi
        have eC : (bdU (zNew t3 17 3) fun q14 => (gfI q14.2 8 288 (some r)).bind fun x15 => (f16_init G (some q14.1) kd (some c) (x15 - m3.1 52) q14.2).bind fun u16 => (some ((.inr (some q14.1), u16), 0, 0) : Option (((Nat ⊕ Option Nat) × Sg) × Nat × Nat))) = some ((.inr (some (zN t3)), t4), 1, 3) := by
          show ((gfI (znew t3 17 0) 8 288 (some r)).bind _).map _ = _
          rw [gfI_v (r := m6.1 52) (by rw [znew_T, if_neg (by omega)]; exact g1.1.1.1) (by rw [znew_I, if_neg (by omega)]; exact g1.2.2.2.1.1), Option.bind_some, f16_e (by rw [znew_T, if_pos rfl]) hGN, Option.bind_some, ← ht4]
          rfl
        have R4 : R7 G L t4 m6 r := R7_k g1 fr4 (fun j _ => I4r j)
        have hNn := hN.2.2.2.2
        have R5' : R7 G L t5 m6 r := by
          refine R7_z R4 (fun q hq => ?_) y8
          rcases hq with rfl | rfl | rfl | rfl
          · exact (y9 _ (by rw [K4.1.2.2]; decide) (by rw [K4.1.2.2]; decide)).1
          · exact y11.2 _ hN.1
          · exact y11.2 _ hN.2.1
          · exact y11.2 _ hN.2.2.1
        have sr5 := (y9 r (by rw [K4.1.2.2]; decide) (by rw [K4.1.2.2]; decide)).1
        have hN9 := y8.1
        refine ⟨t5, 0 + ca + (1 + cc), 0 + na + (3 + nn), m6, κ5, W, ?_, rfl, ⟨⟨R5', g2, ?_, ?_⟩, hWB6, hCV6, ⟨?_, by omega, ?_⟩, St_s (St_k7 hSt hR.2.1.1 hR.1.1.2.1 fr04) (fun q hq => y11.2 q (by have := hWB.1.2.2.2.2; omega)), hN.1, hN.2.1, hN.2.2.1, by omega, hNn⟩, FRo_tr (FRo_7 hN.2.2.2.1 hNn fr04) y11, MI_tr MI5 (MI_7 ⟨fun k hk => g8 k (by simp only [CS7, List.mem_cons, List.not_mem_nil, or_false] at hk; omega), fun k _ => by rw [g7]⟩), ?_⟩
        · rw [u1, te_ok]
          dsimp only
          rw [eC]
          show bdU (some ((Sum.inr (some (zN t3)), t4), 1 + cc, 3 + nn)) _ = _
          rw [te_okc]
          dsimp only
          rw [ztg_e y2, Option.bind_some, y4, bdU_e]
          rfl
        · rw [sr5.2.2.1, I4r, g5 287 (by omega)]; exact x5
        · rw [sr5.2.2.2.1, fr04.2.2.2.1]; exact h286
        · refine ⟨?_, ?_⟩
          · rw [e6 51 (by omega) (by decide), x6.1 51 (by decide), F3.1 51 (by decide)]; exact h51.1
          · have q5 : m3.1 52 = m.1 52 := by rw [e31, f8 52 (by omega), e11]
            rw [e6 46 (by omega) (by decide), e6 52 (by omega) (by decide), x7, x10, e46, q5, h51.2]
        · rw [o5 5 (by decide)] at g6
          omega
        · rw [o5 5 (by decide)] at g6
          unfold CST; omega
      · right
        have hle := TH_K u2
        rw [u1, xt_tel u2.1]
        refine ⟨e, t3, 1 + cc, 8 + nn, K, P, m6, ?_, THI_tr FR2 hN2 (by omega) u2 (by omega) (by omega), rfl, MFI_tr MI5 (MFI_B u3)⟩
        show bdU (some ((Sum.inl e, t3), 1 + cc, 8 + nn)) _ = _
        rw [xt_tel u2.1]
    · right
      rw [e31] at x2
      have hle := TH_K x2
      rw [x1, xt_tel x2.1, xt_tel x2.1, x3, Option.bind_some]
      have h456 : m4.1 56 = m3.1 56 := by
        rcases x4 with q | q
        · exact q.2.2.1 56 (by decide)
        · exact q.2.2.2.2.1 56 (by decide)
      obtain ⟨m', e1, e2⟩ := rdC_f (m := m) (m4 := m4) (K := K) (P := P) x2.2.1.2 (MFI_tr MI3 (MFI_B x4)) (by rw [h456, e31, o56]; omega)
      rw [e1]
      exact ⟨e, t2, cc, nn, K, P, m', rfl, THI_tr FR1 hN1 (by omega) x2 (by omega) (by omega), rfl, e2⟩
    · right
      rw [e31] at x5 x6 x7
      rw [x1, te_okc]
      dsimp only
      obtain ⟨d1, d2, d3, d4, d5, d6⟩ := x2
      rw [ztg_e d1.1.1.1, Option.bind_some, x3, Option.bind_some]
      obtain ⟨m', e1, e2⟩ := rdC_f (m := m) (m4 := m4) (K := 2) (P := md.1 5) (by decide) (MFI_tr MI3 (MFI_B (Or.inl x4))) (by rw [x4.2.2.1 56 (by decide), e31, o56]; omega)
      rw [e1]
      rcases c_want d1 (j := 6) (by decide) (l := 59) rfl with ⟨q9, e', t3, q1, q2⟩ | ⟨q9, q1, q2⟩
      · rw [q1, xt_tel q2.1]
        refine ⟨e', t3, 1 + cc, 8 + nn, 2, md.1 5, m', ?_, THI_tr (FRo_tr FR1 (FRo_7 hN1.1 hN1.2 d3)) ⟨by have := d3.1.1; omega, hN1.2⟩ (by omega) q2 (by omega) (by omega), rfl, e2⟩
        show bdU (some ((Sum.inl e', t3), 1 + cc, 8 + nn)) _ = _
        rw [xt_tel q2.1]
      · exfalso
        have := d2.2
        have : md.1 7 = 6 := q9.2
        omega
  · right
    rw [p1, xt_tel p2.1, xt_tel p2.1]
    obtain ⟨mc, hmc⟩ : ∃ mc, mc = ms (ms m3 49 0) 50 0 := ⟨_, rfl⟩
    have oc : ∀ j, j ≠ 49 → j ≠ 50 → mc.1 j = m2.1 j := fun j h1 h2 => by rw [hmc, ms_1, if_neg h2, ms_1, if_neg h1, e31]
    obtain ⟨m4, z1, z2⟩ := bad1 (m := mc) (by rw [oc 8 (by decide) (by decide)]; exact p4) (by rw [oc 4 (by decide) (by decide)]; exact p3)
    rw [oc 5 (by decide) (by decide)] at z2
    have ec : m5_cond m3 = some m4 := by
      obtain ⟨k, hk⟩ : ∃ k, NN = k + 2 := ⟨NN - 2, by have := NN_gt (show 2 < 100000 by decide); omega⟩
      rw [m_cond_TC, ← hmc, hk]; exact z1 k
    have Fc : mfr CS7 CA7 m3 mc := by rw [hmc]; exact mfr_ms (mfr_ms mfr_rf (by decide)) (by decide)
    rw [ec, Option.bind_some]
    obtain ⟨m', e1, e2⟩ := rdC_f (m := m) (m4 := m4) (K := 1) (P := m2.1 5) (by decide) ⟨Or.inl ⟨z2.1, z2.2.1⟩, MI_tr MI3 (MI_7 (mfr_tr Fc z2.2.2))⟩ (by rw [z2.2.2.1 56 (by decide), oc 56 (by decide) (by decide), o56]; omega)
    rw [e1]
    exact ⟨e, t1, 1, 8, 1, m2.1 5, m', rfl, THI_tr FRo_rf ⟨hN.2.2.2.1, hN.2.2.2.2⟩ (Int.le_refl _) p2 (by omega) (by omega), rfl, e2⟩

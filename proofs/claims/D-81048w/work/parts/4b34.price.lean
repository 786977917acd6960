/-! THE READER: the end of a price row -/
theorem price_end {G : CG} {L : Ly} {r a N0 n kd l : Nat} {κ : Nat → Nat} {t0 t : Sg} {m : Mu} {W : Wv} {x i0 : Int} {co : Option Nat} (hR : R7 G L t m r) (hc : m.1 52 ≤ m.1 5) (h287 : zI t r 287 = 0) (h286 : zR t r 286 = some a) (hWB : WB G r a N0 κ t0 m W) (hCV : CVR m W i0) (h51 : Z51 m) (h46 : 0 ≤ i0 ∧ i0 ≤ m.1 46 ∧ m.1 46 ≤ m.1 5) (hSt : St G t) (hN : L.1 3 < N0 ∧ L.1 100 < N0 ∧ L.1 101 < N0 ∧ N0 ≤ zN t ∧ N0 ≤ r) (hg : gro t0 t ∧ zN t = zN t0) (hs : ∀ q, q ≠ a → sam t0 t q) (ha : zT t a = 7 ∧ zR t a = zR t0 a ∧ zI t a 245 = zI t0 a 245 ∧ zI t a 246 = zI t0 a 246 ∧ zI t a 248 = zI t0 a 248 + (m.1 46 - i0)) (hn : n = nP W) (hn24 : n < 24) (w28 : W 28 n = 15 + (kd : Int)) (hkd : kd < 5) (w29 : W 29 n = x) (hx : (if kd = 3 then 1 else 0) ≤ x ∧ x ≤ 9999999) (w30 : W 30 n = i0) (hco : (co = none ∧ i0 = m.1 46) ∨ ((kd = 1 ∨ kd = 2) ∧ ∃ c, co = some c ∧ CB G κ t0 m W (nM W) c i0 (m.1 46))) (htm : kd = 1 → tmB W n ≤ 2) : ITM G L r a N0 t m (f7_priceRow_b144 G (some r) kd x co t) (m5_readPrice_b191 n m) := by
  obtain ⟨⟨o1, o2, o3⟩, o4, o5, o6, o7⟩ := hWB.1
  have hane : a ≠ r := fun e => by rw [e, o3] at o1; exact absurd o1 (by decide)
  have hsl : slc m 0 = W := hWB.2.1.1
  unfold f7_priceRow_b144 m5_readPrice_b191
  have b27 : W 27 0 = (nP W : Int) := hWB.2.1.2.2.2.2.2.1
  have e27 : m.2 27 0 = (n : Int) := by
    have : slc m 0 27 0 = (n : Int) := by rw [hsl, b27, hn]
    exact this
  rw [ztg_e hR.1.1.1, Option.bind_some, mast_e n rfl (by omega) (by omega), Option.bind_some]
  obtain ⟨m1, hm1⟩ : ∃ m1, m1 = ma m 31 n (m.1 46) := ⟨_, rfl⟩
  rw [← hm1]
  have e1 : mald m1 27 14 0 = some (n : Int) := by rw [mald_e (i := 0) 0 rfl (by omega) (by omega), hm1, ma_o (by decide), e27]
  rw [e1, Option.bind_some, mast_e (i := 0) 0 rfl (by omega) (by omega), Option.bind_some]
  obtain ⟨m2, hm2⟩ : ∃ m2, m2 = ma m1 27 0 ((n : Int) + 1) := ⟨_, rfl⟩
  rw [← hm2, bind_id7]
  have e21 : m2.1 = m.1 := by rw [hm2, hm1]; rfl
  have R2 : R7 G L t m2 r := R7_a hR e21 (by rw [hm2, ma_o (by decide), hm1, ma_o (by decide)]) (by rw [hm2, ma_o (by decide), hm1, ma_o (by decide)])
  have MI2 : MI m m2 := by rw [hm2, hm1]; exact MI_tr (MI_ma (by decide) (Or.inr (by show n < 24; omega))) (MI_ma (by decide) (Or.inr (by decide)))
  obtain ⟨m3, v1, v2⟩ := want7 R2 (by rw [e21]; omega) (j := 6) (by decide) (l := 59) (v := 6) rfl rfl
  rw [v1]
  rw [e21] at v2
  rcases v2 with ⟨t1, u1, u2⟩ | ⟨e, t1, K, P, u1, u2, u3⟩
  · left
    obtain ⟨g1, g2, g3, g4, g5, g6, g7, g8⟩ := u2
    have hrN := g1.2.1.2.1
    have hGN := g1.2.1.1
    obtain ⟨t4, q1, fr4, I4r, T4, s680, s681, s682, N4⟩ := new18 g1 (kd : Int) x co
    have fr04 : fr7 r t t4 := fr7_tr g3 fr4
    have haN : a < zN t := by rw [hg.2]; exact o4 a (by rw [o1]; decide)
    have sa1 := g3.2.1 a haN hane
    have sa4 := fr04.2.1 a haN hane
    have KOt : KO G r a N0 κ t := ⟨⟨o1, ha.1, o3⟩, fun q hq => by rw [hg.2]; exact o4 q hq, o5, o6, o7⟩
    obtain ⟨K4, KK4⟩ := KO_fzn KOt fr04
    obtain ⟨κ2, hκ2⟩ : ∃ κ2, κ2 = fzn κ (zN t) (zN t4) := ⟨_, rfl⟩
    rw [← hκ2] at K4 KK4
    obtain ⟨eq, Lq, Qq⟩ := hWB.2.2.2.2.2.2.1
    rw [← hn] at Lq
    have Lqt : LBw G κ t a 244 n eq := LBw_r hg.1 (fun q hq => ⟨hs q (fun e => by rw [e, o1] at hq; exact absurd hq (by decide)), rfl⟩) (fun q hq => hs q (fun e => by rw [e] at hq; have := o6 a hq; omega)) (by rw [ha.2.1]) Lq
    have Lq4 := LBw_k KK4 o6 o1 (by decide) Lqt
    have hN4 : N0 ≤ zN t4 := by omega
    obtain ⟨l', t5, κ5, ca, na, y1, y2, y3, y4, y5, y6, y7, y8, y9, y10, y11, y12⟩ := LBw_add (c := zN t1) K4 (by decide) hN4 Lq4 (by omega) ⟨by rw [T4]; decide, by omega⟩ (by rw [T4]; decide)
    have l1 : zR t1 a 244 = some l' := by rw [← y1, (fr4.2.1 a (by omega) hane).2.2.2.1]
    have k5x : κ5 (zN t1) = 1 := by
      have h2 : κ2 (zN t1) = 1 := by rw [hκ2]; exact fzn_n ⟨by omega, by omega⟩
      rw [(y9 (zN t1) (by rw [h2]; decide) (by rw [h2]; decide)).2]; exact h2
    have hk5t : ∀ q, κ q ≠ 0 → κ q ≠ 244 → κ q ≠ 3 → sam t t5 q ∧ κ5 q = κ q := fun q q1 q2 q3 => by
      obtain ⟨s1, e1⟩ := KK4.2 q q1 q3
      obtain ⟨s2, e2⟩ := y9 q (by rw [e1]; exact q1) (by rw [e1]; exact q2)
      exact ⟨sam_tr s1 s2, by rw [e2, e1]⟩
    have hk5 : ∀ q, κ q ≠ 0 → κ q ≠ 244 → κ q ≠ 2 → κ q ≠ 3 → sam t0 t5 q ∧ κ5 q = κ q := fun q q1 q2 q3 q4 => by
      obtain ⟨s, e⟩ := hk5t q q1 q2 q4
      exact ⟨sam_tr (hs q (fun e => q3 (by rw [e]; exact o1))) s, e⟩
    have sa5 := (hk5t a (by rw [o1]; decide) (by rw [o1]; decide) (by rw [o1]; decide)).1
    have hg5 : gro t0 t5 := gro_tr hg.1 (gro_tr fr04.1 y8)
    have kf5 : KF κ κ5 t0 t5 := ⟨hg5, fun q hq => by
      obtain ⟨s, e⟩ := hk5 q (by rw [hq]; decide) (by rw [hq]; decide) (by rw [hq]; decide) (by rw [hq]; decide)
      exact ⟨s, by rw [e]; exact hq⟩⟩
    have e6 : ∀ j, (j < 3 ∨ 7 < j) → m3.1 j = m.1 j := fun j h1 => by rw [g8 j h1, e21]
    have a3 : ∀ k, k ≠ 27 → k ≠ 31 → m3.2 k = m.2 k := fun k h1 h2 => by rw [g7, hm2, ma_o h1, hm1, ma_o h2]
    have nd6 : ∀ k, ndN m3 k = ndN m k := fun k => nd_of (fun j hj => a3 j (by omega) (by omega)) k
    obtain ⟨W', hW'⟩ : ∃ W', W' = slc m3 0 := ⟨_, rfl⟩
    have wo : ∀ k, k ≠ 27 → k ≠ 31 → W' k = W k := fun k h1 h2 => by
      rw [hW', ← hsl]; funext j; unfold slc; rw [a3 k h1 h2]
    have w27 : W' 27 0 = (n : Int) + 1 := by
      rw [hW']
      show m3.2 27 0 = _
      rw [g7, hm2, ma_s, if_pos rfl]
    have w31 : ∀ k, k < 24 → W' 31 k = if k = n then m.1 46 else W 31 k := fun k hk => by
      rw [hW', ← hsl]
      show (if k < 24 then m3.2 31 (24 * 0 + k) else 0) = if k = n then m.1 46 else if k < 24 then m.2 31 (24 * 0 + k) else 0
      rw [if_pos hk, if_pos hk, g7, hm2, ma_o (by decide), hm1, ma_s, show 24 * 0 + k = k by omega]
    have e46 : m3.1 46 = m.1 46 := e6 46 (by omega)
    have hn6 : m.1 46 ≤ m3.1 46 ∧ ∀ k : Nat, (k : Int) < m.1 46 → ndN m3 k = ndN m k := ⟨by omega, fun k _ => nd6 k⟩
    have eF : nF W' = nF W := by show (W' 12 0).toNat = _; rw [wo 12 (by decide) (by decide)]
    have eM : nM W' = nM W := by show (W' 19 0).toNat = _; rw [wo 19 (by decide) (by decide)]
    have w14 : ∀ f, f < nF W → W' 14 f = W 14 f := fun f _ => by rw [wo 14 (by decide) (by decide)]
    have W6 : WB G r a N0 κ5 t5 m3 W' := by
      refine WB_p hWB hg5 hk5 ⟨by rw [sa5.2.2.2.1, ha.2.1], by rw [sa5.2.2.1, ha.2.2.1], by rw [sa5.2.2.1, ha.2.2.2.1]⟩ y10 hW'.symm (fun k hk => wo k (by omega) (by omega)) (by rw [w27, hn]) (by omega) (fun i hi => ⟨by rw [wo 28 (by decide) (by decide)], by rw [wo 29 (by decide) (by decide)], by rw [wo 30 (by decide) (by decide)], by rw [w31 i (by omega), if_neg (by omega)]⟩) (e6 56 (by omega)) hn6 (fun k _ => by rw [a3 53 (by decide) (by decide), a3 54 (by decide) (by decide), a3 55 (by decide) (by decide)]; exact ⟨rfl, rfl, rfl⟩) (by rw [← hn]; exact y7) (fun k hk => ?_) ?_ ?_
      · rw [← hn] at hk
        show PB G κ5 t5 m3 W' (if k < n then eq k else zN t1) k
        by_cases z : k < n
        · rw [if_pos z]
          exact PB_k kf5 (Nat.le_of_eq eF.symm) (Nat.le_of_eq eM.symm) w14 hn6 ⟨by rw [wo 28 (by decide) (by decide)], by rw [wo 29 (by decide) (by decide)], by rw [wo 30 (by decide) (by decide)], by rw [w31 k (by omega), if_neg (by omega)]⟩ (Qq k (by omega))
        · rw [if_neg z, show k = n by omega]
          unfold PB
          rw [wo 28 (by decide) (by decide), wo 29 (by decide) (by decide), wo 30 (by decide) (by decide), w31 n (by omega), if_pos rfl, w28, w29, w30, eM, y12.1, y12.2.2.1, y12.2.2.2.1]
          refine ⟨k5x, T4, by rw [s680]; omega, s681, ⟨by omega, by omega, ?_, hx.2⟩, ?_⟩
          · have := hx.1
            by_cases z3 : kd = 3
            · rw [if_pos z3] at this; rw [if_pos (by omega)]; exact this
            · rw [if_neg z3] at this; rw [if_neg (by omega)]; exact this
          · rcases hco with ⟨c1, c2⟩ | ⟨c1, c, c2, c3⟩
            · exact Or.inl ⟨by rw [s682]; exact c1, c2⟩
            · exact Or.inr ⟨by omega, c, by rw [s682]; exact c2, CB_k kf5 (Nat.le_of_eq eF.symm) w14 (Int.le_refl _) hn6 c3⟩
      · rw [← hn, wo 30 (by decide) (by decide), w31 n (by omega), if_pos rfl, w30, sa5.2.2.1]; exact ha.2.2.2.2
      · rw [← hn]
        have hb := hWB.2.1.2.2.2.2.2.2.2.2.2 n (by omega)
        simp only [tmB]
        rw [wo 28 (by decide) (by decide), w28, tmB_cg n (fun i _ => by rw [wo 28 (by decide) (by decide)])]
        by_cases z1 : (15 + (kd : Int)) = 18
        · rw [if_pos z1]; omega
        · rw [if_neg z1]
          by_cases z2 : (15 + (kd : Int)) = 16
          · rw [if_pos z2]; have := htm (by omega); omega
          · rw [if_neg z2]; exact hb
    have eP : nP W' = n + 1 := by show (W' 27 0).toNat = _; rw [w27]; omega
    have hCV6 : CVR m3 W' (m3.1 46) := by
      refine ⟨fun i hi => ?_, ?_⟩
      rotate_left
      · have hs := hCV.2
        unfold SMS at hs ⊢
        have y : lsm (fun k => W' 31 k - W' 30 k) n = lsm (fun k => W 31 k - W 30 k) n := lsm_cg (fun k hk => by
          rw [w31 k (by omega), if_neg (by omega), wo 30 (by decide) (by decide)])
        rw [eM, e6 56 (by omega), eP, lsm_s, y, w31 n (by omega), if_pos rfl, wo 21 (by decide) (by decide), wo 22 (by decide) (by decide), wo 30 (by decide) (by decide), a3 54 (by decide) (by decide), a3 55 (by decide) (by decide), w30, e46]
        rw [← hn] at hs
        omega
      rw [e46] at hi
      rw [eM, e6 56 (by omega), eP, wo 21 (by decide) (by decide), wo 22 (by decide) (by decide), wo 30 (by decide) (by decide), a3 54 (by decide) (by decide), a3 55 (by decide) (by decide)]
      by_cases z : (i : Int) < i0
      · rcases hCV.1 i z with q | q | ⟨k, q1, q2, q3⟩
        · exact Or.inl q
        · exact Or.inr (Or.inl q)
        · exact Or.inr (Or.inr ⟨k, by omega, q2, by rw [w31 k (by omega), if_neg (by omega)]; exact q3⟩)
      · exact Or.inr (Or.inr ⟨n, by omega, by rw [w30]; omega, by rw [w31 n (by omega), if_pos rfl]; exact hi⟩)
    have R4 : R7 G L t4 m3 r := R7_k g1 fr4 (fun j _ => I4r j)
    have hNn := hN.2.2.2.2
    have sr5 := (y9 r (by rw [K4.1.2.2]; decide) (by rw [K4.1.2.2]; decide)).1
    have R5' : R7 G L t5 m3 r := by
      refine R7_z R4 (fun q hq => ?_) y8
      rcases hq with rfl | rfl | rfl | rfl
      · exact sr5
      · exact y11.2 _ hN.1
      · exact y11.2 _ hN.2.1
      · exact y11.2 _ hN.2.2.1
    have hN9 := y8.1
    refine ⟨t5, 0 + ca + 1, 0 + na + 3, m3, κ5, W', ?_, rfl, ⟨⟨R5', g2, ?_, ?_⟩, W6, hCV6, ⟨?_, by omega, ?_⟩, St_s (St_k7 hSt hR.2.1.1 hR.1.1.2.1 fr04) (fun q hq => y11.2 q (by omega)), hN.1, hN.2.1, hN.2.2.1, by omega, hNn⟩, FRo_tr (FRo_7 hN.2.2.2.1 hNn fr04) y11, MI_tr MI2 (MI_7 ⟨fun k hk => g8 k (by simp only [CS7, List.mem_cons, List.not_mem_nil, or_false] at hk; omega), fun k _ => by rw [g7]⟩), ?_⟩
    · rw [u1, te_ok]
      dsimp only
      rw [gfR_v g1.1.1.1 (show zR t1 r 286 = some a by rw [g3.2.2.2.1]; exact h286), Option.bind_some, gfR_v (by rw [sa1.1]; exact ha.1) l1, Option.bind_some]
      show ((f17_init G (some (zN t1)) kd x co (znew t1 18 0)).bind _).map _ = _
      rw [q1, Option.bind_some, ztg_e y2, Option.bind_some, y4, bdU_e]
      rfl
    · rw [sr5.2.2.1, I4r, g5 287 (by omega)]; exact h287
    · rw [sr5.2.2.2.1, fr04.2.2.2.1]; exact h286
    · exact Z51_e h51 (e6 51 (by omega)) (e6 46 (by omega)) (e6 52 (by omega))
    · rw [e21] at g6; omega
    · rw [e21] at g6
      unfold CST; omega
  · right
    exact ⟨e, t1, 1, 8, K, P, m3, by rw [u1, xt_tel u2.1], THI_tr FRo_rf ⟨hN.2.2.2.1, hN.2.2.2.2⟩ (Int.le_refl _) u2 (by omega) (by omega), rfl, MFI_tr MI2 (MFI_B u3)⟩

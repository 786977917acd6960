/-! THE READER: the end of a fact -/
/-- the twin's fact n under construction, since m1 -/
def MNw (n : Nat) (m1 m : Mu) : Prop := (∀ k, (k < 3 ∨ 7 < k) → m.1 k = m1.1 k) ∧ m1.1 5 ≤ m.1 5 ∧ (∀ k, k < 12 ∨ 18 < k → m.2 k = m1.2 k) ∧ (∀ k i, k ≠ 12 → k ≠ 16 → i ≠ n → m.2 k i = m1.2 k i) ∧ (∀ i, i < 6 * n → m.2 16 i = m1.2 16 i) ∧ m.2 12 0 = (n : Int) + 1
theorem fact_end {G : CG} {L : Ly} {r a N0 n b c : Nat} {κ : Nat → Nat} {t1 t : Sg} {m1 m : Mu} {W : Wv} {x : Int} (IX1 : IX G L r a N0 κ t1 m1 W) (hn : n = nF W) (hn8 : n < 8) (hR : R7 G L t m r) (hc : m.1 52 ≤ m.1 5) (hfr : fr7 r t1 t) (h287 : zI t r 287 = 0) (hM : MNw n m1 m) (hF : FNw t (zN t1) b c x (m.2 14 n) (m.2 15 n) (m.2 17 n) (m.2 18 n)) (hx : NM x (m.2 13 n)) (hrg : 0 ≤ m.2 14 n ∧ m.2 14 n ≤ 2 ∧ 0 ≤ m.2 15 n ∧ m.2 15 n ≤ 6 ∧ (m.2 14 n ≠ 1 → m.2 15 n = 0) ∧ (m.2 14 n = 1 → 2 ≤ m.2 15 n ∧ m.2 17 n = 0 ∧ m.2 18 n = m.2 15 n - 1) ∧ (m.2 14 n = 0 → m.2 17 n = 0 ∧ m.2 18 n = 1) ∧ (m.2 14 n = 2 → 0 ≤ m.2 17 n ∧ m.2 17 n < m.2 18 n ∧ m.2 18 n ≤ 999999999)) (hch : ∀ j : Nat, (j : Int) < m.2 15 n → NM (zA t c j) (m.2 16 (6 * n + j))) : ITM G L r a N0 t m (f7_fact_b193 G (some r) (some b) t) (m5_readFact_b208 m) := by
  obtain ⟨⟨i1, i2, i3, i4⟩, hWB, hCV, ⟨i7, i8, i9⟩, hSt, hN⟩ := id IX1
  obtain ⟨⟨o1, o2, o3⟩, o4, o5, o6, o7⟩ := id hWB.1
  obtain ⟨k1, k2, k3, k4, k5, k6⟩ := hM
  have hNa : N0 ≤ a := k25 o5 o6 a (by omega)
  have hane : a ≠ r := fun e => by rw [e, o3] at o1; exact absurd o1 (by decide)
  have haN : a < zN t1 := o4 a (by rw [o1]; decide)
  have hr1 : r < zN t1 := i1.2.1.2.1
  have hNn := hN.2.2.2.2
  have hsl : slc m1 0 = W := hWB.2.1.1
  have hNt : N0 ≤ zN t := by have := hfr.1.1; omega
  unfold f7_fact_b193 m5_readFact_b208
  rw [ztg_e hR.1.1.1, Option.bind_some, bind_id7]
  obtain ⟨m3, v1, v2⟩ := want7 hR (by omega) (j := 6) (by decide) (l := 59) (v := 6) rfl rfl
  rw [v1]
  rcases v2 with ⟨t2, u1, u2⟩ | ⟨e, t2, K, P, u1, u2, u3⟩
  · left
    obtain ⟨g1, g2, g3, g4, g5, g6, g7, g8⟩ := u2
    have fr12 : fr7 r t1 t2 := fr7_tr hfr g3
    obtain ⟨hF2, sc2⟩ := FNw_k hF g3 hr1
    obtain ⟨⟨q1, q2, q3, q4, q5⟩, a1, a2, a3, a4, a5, a6, a7, a8, a9⟩ := hF2
    obtain ⟨K4, KK4⟩ := KO_fzn hWB.1 fr12
    obtain ⟨κ2, hκ2⟩ : ∃ κ2, κ2 = fzn κ (zN t1) (zN t2) := ⟨_, rfl⟩
    rw [← hκ2] at K4 KK4
    have k2b : κ2 b = 1 := by rw [hκ2]; exact fzn_n ⟨q1, q2⟩
    have k2c : κ2 c = 1 := by rw [hκ2]; exact fzn_n ⟨q3, q4⟩
    obtain ⟨e1, L1, Q1⟩ := hWB.2.2.1
    rw [← hn] at L1
    have L4 := LBw_k KK4 o6 o1 (by decide) L1
    have hN4 : N0 ≤ zN t2 := by omega
    obtain ⟨l', t5, κ5, ca, na, y1, y2, y3, y4, y5, y6, y7, y8, y9, y10, y11, y12⟩ := LBw_add (c := b) K4 (by decide) hN4 L4 (by omega) ⟨by rw [a1]; decide, q2⟩ (by rw [a1]; decide)
    have sb5 := y9 b (by rw [k2b]; decide) (by rw [k2b]; decide)
    have sc5 := y9 c (by rw [k2c]; decide) (by rw [k2c]; decide)
    have hk5 : ∀ q, κ q ≠ 0 → κ q ≠ 240 → κ q ≠ 3 → sam t1 t5 q ∧ κ5 q = κ q := fun q q1 q2 q3 => by
      obtain ⟨s1, e1⟩ := KK4.2 q q1 q3
      obtain ⟨s2, e2⟩ := y9 q (by rw [e1]; exact q1) (by rw [e1]; exact q2)
      exact ⟨sam_tr s1 s2, by rw [e2, e1]⟩
    have hg5 : gro t1 t5 := gro_tr fr12.1 y8
    have kf5 : KF κ κ5 t1 t5 := ⟨hg5, fun q hq => by
      obtain ⟨s, e⟩ := hk5 q (by rw [hq]; decide) (by rw [hq]; decide) (by rw [hq]; decide)
      exact ⟨s, by rw [e]; exact hq⟩⟩
    have e6 : ∀ j, (j < 3 ∨ 7 < j) → m3.1 j = m1.1 j := fun j h1 => by rw [g8 j h1, k1 j h1]
    have nd6 : ∀ k, ndN m3 k = ndN m1 k := fun k => nd_of (fun j hj => by rw [g7]; exact k3 j (by omega)) k
    obtain ⟨W', hW'⟩ : ∃ W', W' = slc m3 0 := ⟨_, rfl⟩
    have wo : ∀ k, k < 12 ∨ 18 < k → W' k = W k := fun k h1 => by
      rw [hW', ← hsl]; funext j; unfold slc; rw [g7, k3 k h1]
    have w12 : W' 12 0 = (n : Int) + 1 := by
      rw [hW']
      show m3.2 12 0 = _
      rw [g7]; exact k6
    have w8 : ∀ k f, wid k = 8 → f < 8 → W' k f = m.2 k f := fun k f hw hf => by
      rw [hW']; unfold slc; rw [hw, if_pos hf, g7, show 8 * 0 + f = f by omega]
    have w16 : ∀ j, j < 48 → W' 16 j = m.2 16 j := fun j hj => by
      rw [hW']
      show (if j < 48 then m3.2 16 (48 * 0 + j) else 0) = _
      rw [if_pos hj, g7, show 48 * 0 + j = j by omega]
    have wol : ∀ k f, wid k = 8 → k ≠ 12 → k ≠ 16 → f < n → W' k f = W k f := fun k f hw h1 h2 hf => by
      rw [w8 k f hw (by omega), k4 k f h1 h2 (by omega), ← hsl]; unfold slc; rw [hw, if_pos (by omega), show 8 * 0 + f = f by omega]
    have wol16 : ∀ j, j < 6 * n → W' 16 j = W 16 j := fun j hj => by
      rw [w16 j (by omega), k5 j hj, ← hsl]
      show _ = if j < 48 then m1.2 16 (48 * 0 + j) else 0
      rw [if_pos (by omega), show 48 * 0 + j = j by omega]
    have hn6 : m1.1 46 ≤ m3.1 46 ∧ ∀ k : Nat, (k : Int) < m1.1 46 → ndN m3 k = ndN m1 k := ⟨by rw [e6 46 (by omega)]; exact Int.le_refl _, fun k _ => nd6 k⟩
    have hold : ∀ f, f < nF W → W' 13 f = W 13 f ∧ W' 14 f = W 14 f ∧ W' 15 f = W 15 f ∧ W' 17 f = W 17 f ∧ W' 18 f = W 18 f ∧ ∀ j : Nat, (j : Int) < W 15 f → W' 16 (6 * f + j) = W 16 (6 * f + j) := fun f hf => by
      have h15 := (Q1 f hf).2.2.2.2.2.2.2.1.2.2.2.1
      exact ⟨wol 13 f rfl (by decide) (by decide) (by omega), wol 14 f rfl (by decide) (by decide) (by omega), wol 15 f rfl (by decide) (by decide) (by omega), wol 17 f rfl (by decide) (by decide) (by omega), wol 18 f rfl (by decide) (by decide) (by omega), fun j hj => wol16 _ (by omega)⟩
    have W6 : WB G r a N0 κ5 t5 m3 W' := by
      refine WB_f hWB hg5 hk5 y10 hW'.symm wo (by rw [w12, hn]) (by omega) hold (e6 56 (by omega)) hn6 (fun k _ => by rw [g7, k3 53 (by omega), k3 54 (by omega), k3 55 (by omega)]; exact ⟨rfl, rfl, rfl⟩) (by rw [← hn]; exact y7) (fun k hk => ?_)
      rw [← hn] at hk
      show FB κ5 t5 W' (if k < n then e1 k else b) k
      by_cases z : k < n
      · rw [if_pos z]
        exact FB_k kf5 (hold k (by omega)) (Q1 k (by omega))
      · rw [if_neg z, show k = n by omega]
        unfold FB
        rw [w8 13 n rfl hn8, w8 14 n rfl hn8, w8 15 n rfl hn8, w8 17 n rfl hn8, w8 18 n rfl hn8, sb5.1.1, sb5.1.2.2.1, sb5.1.2.2.2.1]
        refine ⟨by rw [sb5.2]; exact k2b, a1, by rw [a2]; exact hx, a3, a4, a5, a6, hrg, c, a7, by rw [sc5.2]; exact k2c, by rw [sc5.1.1]; exact a8, by rw [sc5.1.2.1]; exact a9, fun j hj => ?_⟩
        rw [sc5.1.2.2.2.2.1, sc2.2.2.2.2.1, w16 _ (by omega)]
        exact hch j hj
    have eM : nM W' = nM W := by show (W' 19 0).toNat = _; rw [wo 19 (by omega)]
    have eP : nP W' = nP W := by show (W' 27 0).toNat = _; rw [wo 27 (by omega)]
    have hCV6 : CVR m3 W' (m3.1 46) := by
      unfold CVR SMS at hCV ⊢
      rw [e6 46 (by omega), eM, e6 56 (by omega), eP, wo 21 (by omega), wo 22 (by omega), wo 31 (by omega), wo 30 (by omega), g7, k3 54 (by omega), k3 55 (by omega)]
      exact hCV
    have sr5 := (y9 r (by rw [K4.1.2.2]; decide) (by rw [K4.1.2.2]; decide)).1
    have R5' : R7 G L t5 m3 r := by
      refine R7_z g1 (fun q hq => ?_) y8
      rcases hq with rfl | rfl | rfl | rfl
      · exact sr5
      · exact y11.2 _ hN.1
      · exact y11.2 _ hN.2.1
      · exact y11.2 _ hN.2.2.1
    have hN9 := y8.1
    have l1 : zR t2 a 240 = some l' := y1
    refine ⟨t5, 0 + ca, 0 + na, m3, κ5, W', ?_, rfl, ⟨⟨R5', g2, ?_, ?_⟩, W6, hCV6, ⟨?_, ?_, ?_⟩, St_s (St_k7 hSt i1.2.1.1 i1.1.1.2.1 fr12) (fun q hq => y11.2 q (by omega)), hN.1, hN.2.1, hN.2.2.1, by omega, hNn⟩, FRo_tr (FRo_7 hNt hNn g3) y11, MI_7 ⟨fun k hk => g8 k (by simp only [CS7, List.mem_cons, List.not_mem_nil, or_false] at hk; omega), fun k _ => by rw [g7]⟩, ?_⟩
    · rw [u1, te_ok]
      dsimp only
      rw [gfR_v g1.1.1.1 (show zR t2 r 286 = some a by rw [fr12.2.2.2.1]; exact i4), Option.bind_some, gfR_v K4.1.2.1 l1, Option.bind_some, ztg_e y2, Option.bind_some, y4, bdU_e]
      rfl
    · rw [sr5.2.2.1, g5 287 (by omega)]; exact h287
    · rw [sr5.2.2.2.1, fr12.2.2.2.1]; exact i4
    · exact Z51_e i7 (e6 51 (by omega)) (e6 46 (by omega)) (e6 52 (by omega))
    · rw [e6 46 (by omega)]; exact i8
    · rw [e6 46 (by omega)]; omega
    · unfold CST; omega
  · right
    exact ⟨e, t2, 1, 8, K, P, m3, by rw [u1, xt_tel u2.1], THI_tr FRo_rf ⟨hNt, hNn⟩ (Int.le_refl _) u2 (by omega) (by omega), rfl, MFI_B u3⟩

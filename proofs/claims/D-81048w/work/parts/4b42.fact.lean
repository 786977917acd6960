/-! THE READER: the wording with one fact more -/
theorem WB_f {G : CG} {r a N0 : Nat} {κ κ' : Nat → Nat} {t t' : Sg} {m m' : Mu} {W W' : Wv} {el' : Nat → Nat} (h : WB G r a N0 κ t m W) (hg : gro t t') (hk : ∀ q, κ q ≠ 0 → κ q ≠ 240 → κ q ≠ 3 → sam t t' q ∧ κ' q = κ q) (hO : KO G r a N0 κ' t') (hs : slc m' 0 = W') (hW : ∀ k, k < 12 ∨ 18 < k → W' k = W k) (hF : W' 12 0 = (nF W : Int) + 1) (hF8 : nF W < 8) (hold : ∀ f, f < nF W → W' 13 f = W 13 f ∧ W' 14 f = W 14 f ∧ W' 15 f = W 15 f ∧ W' 17 f = W 17 f ∧ W' 18 f = W 18 f ∧ ∀ j : Nat, (j : Int) < W 15 f → W' 16 (6 * f + j) = W 16 (6 * f + j)) (h56 : m'.1 56 = m.1 56) (hn : m.1 46 ≤ m'.1 46 ∧ ∀ k : Nat, (k : Int) < m.1 46 → ndN m' k = ndN m k) (hq : ∀ n, n < (m.1 56).toNat → m'.2 53 n = m.2 53 n ∧ m'.2 54 n = m.2 54 n ∧ m'.2 55 n = m.2 55 n) (hL : LBw G κ' t' a 240 (nF W + 1) el') (hrow : ∀ k, k < nF W + 1 → FB κ' t' W' (el' k) k) : WB G r a N0 κ' t' m' W' := by
  obtain ⟨⟨⟨o1, o2, o3⟩, o4, o5, o6, o7⟩, ⟨b1, b2, b3, b4, b5, b6, b7, b8, b9, b10⟩, -, ⟨e2, g1, g2⟩, ⟨e3, m1, m2⟩, ⟨e4, q1, q2⟩, ⟨e5, p1, p2⟩, ⟨s1, s2, s3, s4, d, s5, s6, s7, s8, s9⟩, u1, e6, u2⟩ := h
  have kf : KF κ κ' t t' := ⟨hg, fun q hq => by
    obtain ⟨s, e⟩ := hk q (by rw [hq]; decide) (by rw [hq]; decide) (by rw [hq]; decide)
    exact ⟨s, by rw [e]; exact hq⟩⟩
  have sa := (hk a (by rw [o1]; decide) (by rw [o1]; decide) (by rw [o1]; decide)).1
  obtain ⟨sd, kd⟩ := hk d (by rw [s6]; decide) (by rw [s6]; decide) (by rw [s6]; decide)
  have lb : ∀ {j n : Nat} {el : Nat → Nat}, (j ≠ 0 ∧ j ≠ 240 ∧ j ≠ 3) → LBw G κ t a j n el → LBw G κ' t' a j n el := fun {j n el} j1 hl => LBw_r hg (fun q hq => hk q (by rw [hq]; exact j1.1) (by rw [hq]; exact j1.2.1) (by rw [hq]; exact j1.2.2)) (fun q hq => (kf.2 q (o6 q hq)).1) (by rw [sa.2.2.2.1]) hl
  have eM : nM W' = nM W := by show (W' 19 0).toNat = _; rw [hW 19 (by omega)]
  have eP : nP W' = nP W := by show (W' 27 0).toNat = _; rw [hW 27 (by omega)]
  have eF : nF W' = nF W + 1 := by show (W' 12 0).toNat = _; rw [hF]; omega
  have w14 : ∀ f, f < nF W → W' 14 f = W 14 f := fun f hf => (hold f hf).2.1
  have hFle : nF W ≤ nF W' := by omega
  unfold WB
  rw [eM, eP, h56, hW 19 (by omega), hW 27 (by omega), hW 32 (by omega), hW 20 (by omega), hW 21 (by omega), hW 22 (by omega), hW 30 (by omega), hW 31 (by omega)]
  refine ⟨hO, ⟨hs, by rw [eF, hF]; omega, by omega, b4, b5, b6, b7, b8, b9, fun k hk => by rw [tmB_cg k (fun i _ => by rw [hW 28 (by omega)])]; exact b10 k hk⟩, ⟨el', by rw [eF]; exact hL, by rw [eF]; exact hrow⟩, ⟨e2, lb (by decide) g1, fun n hn => ?_⟩, ⟨e3, lb (by decide) m1, fun n hn' => CB_k kf hFle w14 (Int.le_refl _) hn (m2 n hn')⟩, ⟨e4, lb (by decide) q1, fun n hn' => QB_k kf hFle (Nat.le_of_eq eM.symm) w14 hn (hq n hn') (q2 n hn')⟩, ⟨e5, lb (by decide) p1, fun n hn' => PB_k kf hFle (Nat.le_of_eq eM.symm) w14 hn ⟨by rw [hW 28 (by omega)], by rw [hW 29 (by omega)], by rw [hW 30 (by omega)], by rw [hW 31 (by omega)]⟩ (p2 n hn')⟩, ⟨by rw [sa.2.2.1]; exact s1, by rw [sa.2.2.1]; exact s2, s3, s4, d, by rw [sa.2.2.2.1]; exact s5, by rw [kd]; exact s6, by rw [sd.1]; exact s7, by rw [sd.2.1]; exact s8, by rw [sd.2.2.2.2.1]; exact s9⟩, by rw [sa.2.2.1]; exact u1, e6, lb (by decide) u2⟩
  obtain ⟨z1, z2, z3⟩ := g2 n hn
  obtain ⟨s, e⟩ := kf.2 (e2 n) z1
  exact ⟨e, by rw [s.1]; exact z2, by rw [s.2.2.1]; exact z3⟩
/-- a fact under construction: its cell b, its choices c -/
def FNw (t : Sg) (N1 b c : Nat) (x kd k lo hi : Int) : Prop := (N1 ≤ b ∧ b < zN t ∧ N1 ≤ c ∧ c < zN t ∧ b ≠ c) ∧ zT t b = 10 ∧ zI t b 360 = x ∧ zI t b 361 = kd ∧ zI t b 363 = k ∧ zI t b 364 = lo ∧ zI t b 365 = hi ∧ zR t b 362 = some c ∧ zT t c = 104 ∧ zL t c = 6
theorem FNw_k {r N1 b c : Nat} {t t' : Sg} {x kd k lo hi : Int} (h : FNw t N1 b c x kd k lo hi) (k7 : fr7 r t t') (hr : r < N1) : FNw t' N1 b c x kd k lo hi ∧ sam t t' c := by
  obtain ⟨⟨h1, h2, h3, h4, h5⟩, a1, a2, a3, a4, a5, a6, a7, a8, a9⟩ := h
  have sb := k7.2.1 b h2 (by omega)
  have sc := k7.2.1 c h4 (by omega)
  have hN := k7.1.1
  exact ⟨⟨⟨h1, by omega, h3, by omega, h5⟩, by rw [sb.1]; exact a1, by rw [sb.2.2.1]; exact a2, by rw [sb.2.2.1]; exact a3, by rw [sb.2.2.1]; exact a4, by rw [sb.2.2.1]; exact a5, by rw [sb.2.2.1]; exact a6, by rw [sb.2.2.2.1]; exact a7, by rw [sc.1]; exact a8, by rw [sc.2.1]; exact a9⟩, sc⟩
/-- its cells are made -/
theorem new10 {G : CG} {L : Ly} {t : Sg} {m : Mu} {r : Nat} (h : R7 G L t m r) (x : Int) {kd : Nat} (hkd : kd < 3) : ∃ t', f9_init G (some (zN t)) x kd (znew t 10 0) = some (t', 1, 6) ∧ fr7 r t t' ∧ (∀ j, zI t' r j = zI t r j) ∧ FNw t' (zN t) (zN t) (zN t + 1) x kd 0 0 (if kd = 0 then 1 else 0) ∧ zN t' = zN t + 2 := by
  have hrN := h.2.1.2.1
  have hGN := h.2.1.1
  obtain ⟨t1, ht1⟩ : ∃ t1, t1 = znew (znew t 10 0) (100 + 4) 6 := ⟨_, rfl⟩
  have N1 : zN t1 = zN t + 2 := by rw [ht1]; rfl
  have T1 : zT t1 (zN t) = 10 := by rw [ht1, znew_T, if_neg (by show zN t ≠ zN t + 1; omega), znew_T, if_pos rfl]
  have T1c : zT t1 (zN t + 1) = 104 := by rw [ht1, znew_T, if_pos (show zN t + 1 = zN (znew t 10 0) from rfl)]
  have L1c : zL t1 (zN t + 1) = 6 := by rw [ht1, znew_L, if_pos (show zN t + 1 = zN (znew t 10 0) from rfl)]
  have I1 : ∀ j, zI t1 (zN t) j = 0 := fun j => by rw [ht1, znew_I, if_neg (by show zN t ≠ zN t + 1; omega), znew_I, if_pos rfl]
  have Ir : ∀ j, zI t1 r j = zI t r j := fun j => by rw [ht1, znew_I, if_neg (by show r ≠ zN t + 1; omega), znew_I, if_neg (by omega)]
  have fr1 : fr7 r t t1 := by
    rw [ht1]
    exact fr7_znew (fr7_znew fr7_rf hrN) (by show r < zN t + 1; omega)
  obtain ⟨v, hv⟩ : ∃ v : Int, v = if kd = 0 then 1 else 0 := ⟨_, rfl⟩
  obtain ⟨t2, ht2⟩ : ∃ t2, t2 = zsI (zsI (zsI (zsR t1 (zN t) 362 (some (zN t + 1))) (zN t) 360 x) (zN t) 361 kd) (zN t) 365 v := ⟨_, rfl⟩
  have e9 : f9_init G (some (zN t)) x kd (znew t 10 0) = some (t2, 1, 6) := by
    unfold f9_init
    rw [Option.bind_some, zNewA_e (i := 6) 6 rfl (by omega), bdU_e]
    dsimp only
    rw [show zN (znew t 10 0) = zN t + 1 from rfl, ← ht1, pfR_e T1 hGN, Option.bind_some, pfI_e (show zT (zsR t1 (zN t) 362 (some (zN t + 1))) (zN t) = 10 from T1) hGN, Option.bind_some, pfI_e (show zT (zsI (zsR t1 (zN t) 362 (some (zN t + 1))) (zN t) 360 x) (zN t) = 10 from T1) hGN, Option.bind_some, w32_n (by omega)]
    have hT : zT (zsI (zsI (zsR t1 (zN t) 362 (some (zN t + 1))) (zN t) 360 x) (zN t) 361 kd) (zN t) = 10 := T1
    by_cases z : kd = 0
    · rw [if_pos (by omega), pfI_e hT hGN, Option.bind_some, ht2, hv, if_pos z]; rfl
    · rw [if_neg (by omega), pfI_e hT hGN, Option.bind_some, ht2, hv, if_neg z]; rfl
  refine ⟨t2, e9, ?_, fun j => ?_, ?_, by rw [ht2]; exact N1⟩
  · rw [ht2]
    exact fr7_zsI (fr7_zsI (fr7_zsI (fr7_zsR fr1 (Nat.le_refl _) (by omega)) (Nat.le_refl _) (by omega)) (Nat.le_refl _) (by omega)) (Nat.le_refl _) (by omega)
  · rw [ht2, zsI_I, if_neg (fun q => by have := q.1; omega), zsI_I, if_neg (fun q => by have := q.1; omega), zsI_I, if_neg (fun q => by have := q.1; omega), zsR_I]; exact Ir j
  · have i2 : ∀ j, zI t2 (zN t) j = if j = 365 then v else if j = 361 then (kd : Int) else if j = 360 then x else 0 := fun j => by
      rw [ht2, zsI_I]
      by_cases z1 : j = 365
      · rw [if_pos ⟨rfl, z1⟩, if_pos z1]
      · rw [if_neg (fun q => z1 q.2), if_neg z1, zsI_I]
        by_cases z2 : j = 361
        · rw [if_pos ⟨rfl, z2⟩, if_pos z2]
        · rw [if_neg (fun q => z2 q.2), if_neg z2, zsI_I]
          by_cases z3 : j = 360
          · rw [if_pos ⟨rfl, z3⟩, if_pos z3]
          · rw [if_neg (fun q => z3 q.2), if_neg z3, zsR_I]; exact I1 j
    refine ⟨⟨Nat.le_refl _, by rw [ht2]; show zN t < zN t1; omega, by omega, by rw [ht2]; show zN t + 1 < zN t1; omega, by omega⟩, by rw [ht2]; exact T1, ?_, ?_, ?_, ?_, ?_, ?_, by rw [ht2]; exact T1c, by rw [ht2]; exact L1c⟩
    · rw [i2]; rfl
    · rw [i2]; rfl
    · rw [i2]; rfl
    · rw [i2]; rfl
    · rw [i2, if_pos rfl]; exact hv
    · rw [ht2]
      show zR (zsR t1 (zN t) 362 (some (zN t + 1))) (zN t) 362 = _
      rw [zsR_R, if_pos ⟨rfl, rfl⟩]

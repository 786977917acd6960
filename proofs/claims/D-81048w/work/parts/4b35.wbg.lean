/-! THE READER: what lies behind the counted parts of a wording does not matter -/
def Weq (W W' : Wv) : Prop := (W' 12 0 = W 12 0 ∧ W' 19 0 = W 19 0 ∧ W' 27 0 = W 27 0 ∧ W' 32 = W 32) ∧ (∀ f, f < nF W → W' 13 f = W 13 f ∧ W' 14 f = W 14 f ∧ W' 15 f = W 15 f ∧ W' 17 f = W 17 f ∧ W' 18 f = W 18 f ∧ ∀ j : Nat, (j : Int) < W 15 f → W' 16 (6 * f + j) = W 16 (6 * f + j)) ∧ (∀ k, k < nM W → W' 20 k = W 20 k ∧ W' 21 k = W 21 k ∧ W' 22 k = W 22 k) ∧ (∀ k, k < nP W → W' 28 k = W 28 k ∧ W' 29 k = W 29 k ∧ W' 30 k = W 30 k ∧ W' 31 k = W 31 k)
theorem Weq_n {W W' : Wv} (h : Weq W W') : nF W' = nF W ∧ nM W' = nM W ∧ nP W' = nP W := ⟨by show (W' 12 0).toNat = _; rw [h.1.1], by show (W' 19 0).toNat = _; rw [h.1.2.1], by show (W' 27 0).toNat = _; rw [h.1.2.2.1]⟩
theorem WB_g {G : CG} {r a N0 : Nat} {κ κ' : Nat → Nat} {t t' : Sg} {m m' : Mu} {W W' : Wv} (k : KK κ κ' t t') (hO : KO G r a N0 κ' t') (hs : slc m' 0 = W') (hW : Weq W W') (h56 : m'.1 56 = m.1 56) (hn : m.1 46 ≤ m'.1 46 ∧ ∀ k : Nat, (k : Int) < m.1 46 → ndN m' k = ndN m k) (hq : ∀ n, n < (m.1 56).toNat → m'.2 53 n = m.2 53 n ∧ m'.2 54 n = m.2 54 n ∧ m'.2 55 n = m.2 55 n) (h : WB G r a N0 κ t m W) : WB G r a N0 κ' t' m' W' := by
  obtain ⟨⟨⟨o1, o2, o3⟩, o4, o5, o6, o7⟩, ⟨b1, b2, b3, b4, b5, b6, b7, b8, b9, b10⟩, ⟨e1, f1, f2⟩, ⟨e2, g1, g2⟩, ⟨e3, m1, m2⟩, ⟨e4, q1, q2⟩, ⟨e5, p1, p2⟩, ⟨s1, s2, s3, s4, d, s5, s6, s7, s8, s9⟩, u1, e6, u2⟩ := h
  have sa := (k.2 a (by rw [o1]; decide) (by rw [o1]; decide)).1
  obtain ⟨sd, kd⟩ := k.2 d (by rw [s6]; decide) (by rw [s6]; decide)
  obtain ⟨eF, eM, eP⟩ := Weq_n hW
  obtain ⟨⟨w1, w2, w3, w4⟩, wF, wM, wP⟩ := hW
  have w14 : ∀ f, f < nF W → W' 14 f = W 14 f := fun f hf => (wF f hf).2.1
  have es1 : (List.map (fun k => W' 22 k - W' 21 k) (List.range (nM W))) = List.map (fun k => W 22 k - W 21 k) (List.range (nM W)) := List.map_congr_left (fun k hk => by
    obtain ⟨-, c3, c4⟩ := wM k (List.mem_range.mp hk)
    rw [c3, c4])
  have es2 : (List.map (fun k => W' 31 k - W' 30 k) (List.range (nP W))) = List.map (fun k => W 31 k - W 30 k) (List.range (nP W)) := List.map_congr_left (fun k hk => by
    obtain ⟨-, -, c3, c4⟩ := wP k (List.mem_range.mp hk)
    rw [c3, c4])
  unfold WB
  rw [eF, eM, eP, w1, w2, w3, w4, h56, es1, es2]
  refine ⟨hO, ⟨hs, b2, b3, b4, b5, b6, b7, b8, b9, fun k hk => by rw [tmB_cg k (fun i hi => (wP i (by omega)).1)]; exact b10 k hk⟩, ⟨e1, LBw_k k o6 o1 (by decide) f1, fun f hf => FB_k (KK_F k) (wF f hf) (f2 f hf)⟩, ⟨e2, LBw_k k o6 o1 (by decide) g1, fun n hn => ?_⟩, ⟨e3, LBw_k k o6 o1 (by decide) m1, fun n hn' => ?_⟩, ⟨e4, LBw_k k o6 o1 (by decide) q1, fun n hn' => QB_k (KK_F k) (Nat.le_of_eq eF.symm) (Nat.le_of_eq eM.symm) w14 hn (hq n hn') (q2 n hn')⟩, ⟨e5, LBw_k k o6 o1 (by decide) p1, fun n hn' => PB_k (KK_F k) (Nat.le_of_eq eF.symm) (Nat.le_of_eq eM.symm) w14 hn (wP n hn') (p2 n hn')⟩, ⟨by rw [sa.2.2.1]; exact s1, by rw [sa.2.2.1]; exact s2, s3, s4, d, by rw [sa.2.2.2.1]; exact s5, by rw [kd]; exact s6, by rw [sd.1]; exact s7, by rw [sd.2.1]; exact s8, by rw [sd.2.2.2.2.1]; exact s9⟩, by rw [sa.2.2.1]; exact u1, e6, LBw_k k o6 o1 (by decide) u2⟩
  · obtain ⟨z1, z2, z3⟩ := g2 n hn
    obtain ⟨s, e⟩ := k.2 (e2 n) (by rw [z1]; decide) (by rw [z1]; decide)
    exact ⟨by rw [e]; exact z1, by rw [s.1]; exact z2, by rw [s.2.2.1, (wM n hn).1]; exact z3⟩
  · rw [(wM n hn').2.1, (wM n hn').2.2]
    exact CB_k (KK_F k) (Nat.le_of_eq eF.symm) w14 (Int.le_refl _) hn (m2 n hn')
theorem CVR_g {m m' : Mu} {W W' : Wv} {h : Int} (hW : Weq W W') (h56 : m'.1 56 = m.1 56) (hq : ∀ n, n < (m.1 56).toNat → m'.2 54 n = m.2 54 n ∧ m'.2 55 n = m.2 55 n) (hc : CVR m W h) : CVR m' W' h := by
  obtain ⟨eF, eM, eP⟩ := Weq_n hW
  obtain ⟨-, -, wM, wP⟩ := hW
  refine ⟨fun i hi => ?_, ?_⟩
  rotate_left
  · rw [← hc.2]
    unfold SMS
    rw [eM, eP, h56, lsm_cg (fun k hk => by rw [(wM k hk).2.1, (wM k hk).2.2]), lsm_cg (n := (m.1 56).toNat) (fun k hk => by rw [(hq k hk).1, (hq k hk).2]), lsm_cg (n := nP W) (fun k hk => by rw [(wP k hk).2.2.1, (wP k hk).2.2.2])]
  rw [eM, eP, h56]
  rcases hc.1 i hi with ⟨k, k1, k2, k3⟩ | ⟨k, k1, k2, k3⟩ | ⟨k, k1, k2, k3⟩
  · exact Or.inl ⟨k, k1, by rw [(wM k k1).2.1]; exact k2, by rw [(wM k k1).2.2]; exact k3⟩
  · exact Or.inr (Or.inl ⟨k, k1, by rw [(hq k k1).1]; exact k2, by rw [(hq k k1).2]; exact k3⟩)
  · exact Or.inr (Or.inr ⟨k, k1, by rw [(wP k k1).2.2.1]; exact k2, by rw [(wP k k1).2.2.2]; exact k3⟩)
theorem Weq_rf {W : Wv} : Weq W W := ⟨⟨rfl, rfl, rfl, rfl⟩, fun _ _ => ⟨rfl, rfl, rfl, rfl, rfl, fun _ _ => rfl⟩, fun _ _ => ⟨rfl, rfl, rfl⟩, fun _ _ => ⟨rfl, rfl, rfl, rfl⟩⟩
/-- one number behind the price rows, behind the meanings -/
theorem Weq_p {m m' : Mu} {W : Wv} {n : Nat} (hs : slc m 0 = W) (hn : n = nP W) (h : ∀ k, k ≠ 28 → k ≠ 29 → k ≠ 30 → m'.2 k = m.2 k) (h' : ∀ k i, i ≠ n → m'.2 k i = m.2 k i) : Weq W (slc m' 0) := by
  have wo : ∀ k, k ≠ 28 → k ≠ 29 → k ≠ 30 → slc m' 0 k = W k := fun k h1 h2 h3 => by
    rw [← hs]; funext j; unfold slc; rw [h k h1 h2 h3]
  have wi : ∀ k i, wid k = 24 → i ≠ n → slc m' 0 k i = W k i := fun k i hw hi => by
    rw [← hs]; unfold slc
    rw [hw]
    by_cases z : i < 24
    · rw [if_pos z, if_pos z, h' k _ (by omega)]
    · rw [if_neg z, if_neg z]
  refine ⟨⟨by rw [wo 12 (by decide) (by decide) (by decide)], by rw [wo 19 (by decide) (by decide) (by decide)], by rw [wo 27 (by decide) (by decide) (by decide)], by rw [wo 32 (by decide) (by decide) (by decide)]⟩, fun f _ => ⟨by rw [wo 13 (by decide) (by decide) (by decide)], by rw [wo 14 (by decide) (by decide) (by decide)], by rw [wo 15 (by decide) (by decide) (by decide)], by rw [wo 17 (by decide) (by decide) (by decide)], by rw [wo 18 (by decide) (by decide) (by decide)], fun j _ => by rw [wo 16 (by decide) (by decide) (by decide)]⟩, fun k _ => ⟨by rw [wo 20 (by decide) (by decide) (by decide)], by rw [wo 21 (by decide) (by decide) (by decide)], by rw [wo 22 (by decide) (by decide) (by decide)]⟩, fun k hk => ⟨wi 28 k rfl (by omega), wi 29 k rfl (by omega), wi 30 k rfl (by omega), by rw [wo 31 (by decide) (by decide) (by decide)]⟩⟩
/-- the twin's price row, once it has a fault or a bad token -/
theorem rdP_f {m m4 : Mu} {K P : Int} {n : Nat} (hK : 1 ≤ K ∧ K ≤ 6) (h : MFI m m4 K P) (hn : n < 24) (h27 : m4.2 27 0 = (n : Int)) : ∃ m', m5_readPrice_b191 n m4 = some m' ∧ MFI m m' K P := by
  unfold m5_readPrice_b191
  rw [mast_e n rfl (by omega) (by omega), Option.bind_some]
  obtain ⟨m5, hm5⟩ : ∃ m5, m5 = ma m4 31 n (m4.1 46) := ⟨_, rfl⟩
  rw [← hm5]
  have e1 : mald m5 27 14 0 = some (n : Int) := by rw [mald_e (i := 0) 0 rfl (by omega) (by omega), hm5, ma_o (by decide), h27]
  rw [e1, Option.bind_some, mast_e (i := 0) 0 rfl (by omega) (by omega), Option.bind_some]
  obtain ⟨m6, hm6⟩ : ∃ m6, m6 = ma m5 27 0 ((n : Int) + 1) := ⟨_, rfl⟩
  rw [← hm6, bind_id7]
  have o : m6.1 = m4.1 := by rw [hm6, hm5]; rfl
  have h5 : MFI m m6 K P := by
    refine ⟨?_, MI_tr h.2 (by rw [hm6, hm5]; exact MI_tr (MI_ma (by decide) (Or.inr (by show n < 24; omega))) (MI_ma (by decide) (Or.inr (by decide))))⟩
    rw [o]; exact h.1
  exact wS_any (v := 6) (by decide) hK h5
theorem rdP_f2 {m m4 : Mu} {K P x v : Int} {n : Nat} (hK : 1 ≤ K ∧ K ≤ 6) (h : MFI m m4 K P) (hn : n < 24) (h27 : m4.2 27 0 = (n : Int)) : ∃ m', m5_readPrice_b144 v n n x m4 = some m' ∧ MFI m m' K P := by
  unfold m5_readPrice_b144
  rw [mast_e n rfl (by omega) (by omega), Option.bind_some, mast_e n rfl (by omega) (by omega), Option.bind_some]
  obtain ⟨m6, hm6⟩ : ∃ m6, m6 = ma (ma m4 29 n x) 30 n ((ma m4 29 n x).1 46) := ⟨_, rfl⟩
  rw [← hm6]
  have o : m6.1 = m4.1 := by rw [hm6]; rfl
  have h5 : MFI m m6 K P := by
    refine ⟨?_, MI_tr h.2 (by rw [hm6]; exact MI_tr (MI_ma (by decide) (Or.inr (by show n < 24; omega))) (MI_ma (by decide) (Or.inr (by show n < 24; omega))))⟩
    rw [o]; exact h.1
  have h27' : m6.2 27 0 = (n : Int) := by rw [hm6, ma_o (by decide), ma_o (by decide)]; exact h27
  obtain ⟨m', e1, e2⟩ := rdP_f hK h5 hn h27'
  refine ⟨m', ?_, e2⟩
  by_cases z : w32 (m6.1 8) = 0
  · rw [if_pos z]
    have h4 : m6.1 4 = 5 := by
      rcases h5.1 with q | q
      · rw [q.1, w32_id (by omega) (by omega)] at z; omega
      · exact q.2.2.1
    have e174 : m5_readPrice_b174 n m6 = some m' := by
      unfold m5_readPrice_b174
      rw [m_isWq 20 (by decide) (by rw [h4]; decide) (fun q => by omega), Option.bind_some, decide_eq_false (by omega), if_pos (by rfl)]
      exact e1
    rw [e174, e1]
    by_cases z1 : w32 v = 16
    · rw [if_pos z1]
    · rw [if_neg z1]
      by_cases z2 : w32 v = 17
      · rw [if_pos z2]
      · rw [if_neg z2]
  · rw [if_neg z]; exact e1

/-! THE READER: the wording with one price row more -/
theorem WB_p {G : CG} {r a N0 : Nat} {κ κ' : Nat → Nat} {t t' : Sg} {m m' : Mu} {W W' : Wv} {el' : Nat → Nat} (h : WB G r a N0 κ t m W) (hg : gro t t') (hk : ∀ q, κ q ≠ 0 → κ q ≠ 244 → κ q ≠ 2 → κ q ≠ 3 → sam t t' q ∧ κ' q = κ q) (ha : zR t' a = zR t a ∧ zI t' a 245 = zI t a 245 ∧ zI t' a 246 = zI t a 246) (hO : KO G r a N0 κ' t') (hs : slc m' 0 = W') (hW : ∀ k, k < 27 ∨ 31 < k → W' k = W k) (hP : W' 27 0 = (nP W : Int) + 1) (hP24 : nP W < 24) (hold : ∀ i, i < nP W → W' 28 i = W 28 i ∧ W' 29 i = W 29 i ∧ W' 30 i = W 30 i ∧ W' 31 i = W 31 i) (h56 : m'.1 56 = m.1 56) (hn : m.1 46 ≤ m'.1 46 ∧ ∀ k : Nat, (k : Int) < m.1 46 → ndN m' k = ndN m k) (hq : ∀ n, n < (m.1 56).toNat → m'.2 53 n = m.2 53 n ∧ m'.2 54 n = m.2 54 n ∧ m'.2 55 n = m.2 55 n) (hL : LBw G κ' t' a 244 (nP W + 1) el') (hrow : ∀ k, k < nP W + 1 → PB G κ' t' m' W' (el' k) k) (h248 : zI t' a 248 = zI t a 248 + (W' 31 (nP W) - W' 30 (nP W))) (htm : tmB W' (nP W + 1) ≤ 3) : WB G r a N0 κ' t' m' W' := by
  obtain ⟨⟨⟨o1, o2, o3⟩, o4, o5, o6, o7⟩, ⟨b1, b2, b3, b4, b5, b6, b7, b8, b9, b10⟩, ⟨e1, f1, f2⟩, ⟨e2, g1, g2⟩, ⟨e3, m1, m2⟩, ⟨e4, q1, q2⟩, -, ⟨s1, s2, s3, s4, d, s5, s6, s7, s8, s9⟩, u1, e6, u2⟩ := h
  have kf : KF κ κ' t t' := ⟨hg, fun q hq => by
    obtain ⟨s, e⟩ := hk q (by rw [hq]; decide) (by rw [hq]; decide) (by rw [hq]; decide) (by rw [hq]; decide)
    exact ⟨s, by rw [e]; exact hq⟩⟩
  obtain ⟨sd, kd⟩ := hk d (by rw [s6]; decide) (by rw [s6]; decide) (by rw [s6]; decide) (by rw [s6]; decide)
  have lb : ∀ {j n : Nat} {el : Nat → Nat}, (j ≠ 0 ∧ j ≠ 244 ∧ j ≠ 2 ∧ j ≠ 3) → LBw G κ t a j n el → LBw G κ' t' a j n el := fun {j n el} j1 hl => LBw_r hg (fun q hq => hk q (by rw [hq]; exact j1.1) (by rw [hq]; exact j1.2.1) (by rw [hq]; exact j1.2.2.1) (by rw [hq]; exact j1.2.2.2)) (fun q hq => (kf.2 q (o6 q hq)).1) (by rw [ha.1]) hl
  have eF : nF W' = nF W := by show (W' 12 0).toNat = _; rw [hW 12 (by omega)]
  have eM : nM W' = nM W := by show (W' 19 0).toNat = _; rw [hW 19 (by omega)]
  have eP : nP W' = nP W + 1 := by show (W' 27 0).toNat = _; rw [hP]; omega
  have w14 : ∀ f, f < nF W → W' 14 f = W 14 f := fun f _ => by rw [hW 14 (by omega)]
  unfold WB
  rw [eF, eM, eP, h56, hW 12 (by omega), hW 19 (by omega), hW 20 (by omega), hW 21 (by omega), hW 22 (by omega), hW 32 (by omega)]
  refine ⟨hO, ⟨hs, b2, b3, b4, b5, by rw [hP]; omega, by omega, b8, b9, fun k hk => ?_⟩, ⟨e1, lb (by decide) f1, fun f hf => FB_k kf ⟨by rw [hW 13 (by omega)], by rw [hW 14 (by omega)], by rw [hW 15 (by omega)], by rw [hW 17 (by omega)], by rw [hW 18 (by omega)], fun j _ => by rw [hW 16 (by omega)]⟩ (f2 f hf)⟩, ⟨e2, lb (by decide) g1, fun n hn => ?_⟩, ⟨e3, lb (by decide) m1, fun n hn' => CB_k kf (Nat.le_of_eq eF.symm) w14 (Int.le_refl _) hn (m2 n hn')⟩, ⟨e4, lb (by decide) q1, fun n hn' => QB_k kf (Nat.le_of_eq eF.symm) (Nat.le_of_eq eM.symm) w14 hn (hq n hn') (q2 n hn')⟩, ⟨el', hL, hrow⟩, ⟨by rw [ha.2.1]; exact s1, by rw [ha.2.2]; exact s2, s3, s4, d, by rw [ha.1]; exact s5, by rw [kd]; exact s6, by rw [sd.1]; exact s7, by rw [sd.2.1]; exact s8, by rw [sd.2.2.2.2.1]; exact s9⟩, ?_, e6, lb (by decide) u2⟩
  · by_cases z : k ≤ nP W
    · rw [tmB_cg k (fun i hi => (hold i (by omega)).1)]; exact b10 k z
    · rw [show k = nP W + 1 by omega]; exact htm
  · obtain ⟨z1, z2, z3⟩ := g2 n hn
    obtain ⟨s, e⟩ := kf.2 (e2 n) z1
    exact ⟨e, by rw [s.1]; exact z2, by rw [s.2.2.1]; exact z3⟩
  · rw [h248, u1, List.range_succ, List.map_append, List.sum_append]
    have em : (List.map (fun k => W' 31 k - W' 30 k) (List.range (nP W))) = List.map (fun k => W 31 k - W 30 k) (List.range (nP W)) := List.map_congr_left (fun k hk => by
      obtain ⟨-, -, c3, c4⟩ := hold k (List.mem_range.mp hk)
      rw [c3, c4])
    rw [em]
    simp only [List.map_cons, List.map_nil, List.sum_cons, List.sum_nil]
    omega

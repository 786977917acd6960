/-! THE READER: the wording with one meaning more -/
theorem WB_m {G : CG} {r a N0 : Nat} {κ κ' : Nat → Nat} {t t' : Sg} {m m' : Mu} {W W' : Wv} {el' em' : Nat → Nat} (h : WB G r a N0 κ t m W) (hg : gro t t') (hk : ∀ q, κ q ≠ 0 → κ q ≠ 241 → κ q ≠ 242 → κ q ≠ 2 → κ q ≠ 3 → sam t t' q ∧ κ' q = κ q) (ha : zR t' a = zR t a ∧ zI t' a 245 = zI t a 245 ∧ zI t' a 246 = zI t a 246) (hO : KO G r a N0 κ' t') (hs : slc m' 0 = W') (hW : ∀ k, k < 19 ∨ 22 < k → W' k = W k) (hM : W' 19 0 = (nM W : Int) + 1) (hM12 : nM W < 12) (hold : ∀ i, i < nM W → W' 20 i = W 20 i ∧ W' 21 i = W 21 i ∧ W' 22 i = W 22 i) (h56 : m'.1 56 = m.1 56) (hn : m.1 46 ≤ m'.1 46 ∧ ∀ k : Nat, (k : Int) < m.1 46 → ndN m' k = ndN m k) (hq : ∀ n, n < (m.1 56).toNat → m'.2 53 n = m.2 53 n ∧ m'.2 54 n = m.2 54 n ∧ m'.2 55 n = m.2 55 n) (hL : LBw G κ' t' a 241 (nM W + 1) el') (hrow : ∀ k, k < nM W + 1 → κ' (el' k) = 1 ∧ zT t' (el' k) = 29 ∧ NM (zI t' (el' k) 1120) (W' 20 k)) (hL2 : LBw G κ' t' a 242 (nM W + 1) em') (hrow2 : ∀ k : Nat, k < nM W + 1 → CB G κ' t' m' W' k (em' k) (W' 21 k) (W' 22 k)) (h248 : zI t' a 248 = zI t a 248 + (W' 22 (nM W) - W' 21 (nM W))) : WB G r a N0 κ' t' m' W' := by
  obtain ⟨⟨⟨o1, o2, o3⟩, o4, o5, o6, o7⟩, ⟨b1, b2, b3, b4, b5, b6, b7, b8, b9, b10⟩, ⟨e1, f1, f2⟩, -, -, ⟨e4, q1, q2⟩, ⟨e5, p1, p2⟩, ⟨s1, s2, s3, s4, d, s5, s6, s7, s8, s9⟩, u1, e6, u2⟩ := h
  have kf : KF κ κ' t t' := ⟨hg, fun q hq => by
    obtain ⟨s, e⟩ := hk q (by rw [hq]; decide) (by rw [hq]; decide) (by rw [hq]; decide) (by rw [hq]; decide) (by rw [hq]; decide)
    exact ⟨s, by rw [e]; exact hq⟩⟩
  obtain ⟨sd, kd⟩ := hk d (by rw [s6]; decide) (by rw [s6]; decide) (by rw [s6]; decide) (by rw [s6]; decide) (by rw [s6]; decide)
  have lb : ∀ {j n : Nat} {el : Nat → Nat}, (j ≠ 0 ∧ j ≠ 241 ∧ j ≠ 242 ∧ j ≠ 2 ∧ j ≠ 3) → LBw G κ t a j n el → LBw G κ' t' a j n el := fun {j n el} j1 hl => LBw_r hg (fun q hq => hk q (by rw [hq]; exact j1.1) (by rw [hq]; exact j1.2.1) (by rw [hq]; exact j1.2.2.1) (by rw [hq]; exact j1.2.2.2.1) (by rw [hq]; exact j1.2.2.2.2)) (fun q hq => (kf.2 q (o6 q hq)).1) (by rw [ha.1]) hl
  have eF : nF W' = nF W := by show (W' 12 0).toNat = _; rw [hW 12 (by omega)]
  have eP : nP W' = nP W := by show (W' 27 0).toNat = _; rw [hW 27 (by omega)]
  have eM : nM W' = nM W + 1 := by show (W' 19 0).toNat = _; rw [hM]; omega
  have w14 : ∀ f, f < nF W → W' 14 f = W 14 f := fun f _ => by rw [hW 14 (by omega)]
  have hMle : nM W ≤ nM W' := by omega
  unfold WB
  rw [eF, eP, h56, hW 12 (by omega), hW 27 (by omega), hW 32 (by omega), hW 30 (by omega), hW 31 (by omega)]
  refine ⟨hO, ⟨hs, b2, b3, by rw [eM, hM]; omega, by omega, b6, b7, b8, b9, fun k hk => by rw [tmB_cg k (fun i _ => by rw [hW 28 (by omega)])]; exact b10 k hk⟩, ⟨e1, lb (by decide) f1, fun f hf => FB_k kf ⟨by rw [hW 13 (by omega)], by rw [hW 14 (by omega)], by rw [hW 15 (by omega)], by rw [hW 17 (by omega)], by rw [hW 18 (by omega)], fun j _ => by rw [hW 16 (by omega)]⟩ (f2 f hf)⟩, ⟨el', by rw [eM]; exact hL, by rw [eM]; exact hrow⟩, ⟨em', by rw [eM]; exact hL2, by rw [eM]; exact hrow2⟩, ⟨e4, lb (by decide) q1, fun n hn' => QB_k kf (Nat.le_of_eq eF.symm) hMle w14 hn (hq n hn') (q2 n hn')⟩, ⟨e5, lb (by decide) p1, fun n hn' => PB_k kf (Nat.le_of_eq eF.symm) hMle w14 hn ⟨by rw [hW 28 (by omega)], by rw [hW 29 (by omega)], by rw [hW 30 (by omega)], by rw [hW 31 (by omega)]⟩ (p2 n hn')⟩, ⟨by rw [ha.2.1]; exact s1, by rw [ha.2.2]; exact s2, s3, s4, d, by rw [ha.1]; exact s5, by rw [kd]; exact s6, by rw [sd.1]; exact s7, by rw [sd.2.1]; exact s8, by rw [sd.2.2.2.2.1]; exact s9⟩, ?_, e6, lb (by decide) u2⟩
  rw [h248, u1, eM, List.range_succ, List.map_append, List.sum_append]
  have em : (List.map (fun k => W' 22 k - W' 21 k) (List.range (nM W))) = List.map (fun k => W 22 k - W 21 k) (List.range (nM W)) := List.map_congr_left (fun k hk => by
    obtain ⟨-, c3, c4⟩ := hold k (List.mem_range.mp hk)
    rw [c3, c4])
  rw [em]
  simp only [List.map_cons, List.map_nil, List.sum_cons, List.sum_nil]
  omega
theorem CA_ne6 {F : Nat → Prop} {G : CG} {u : Sg} {d c : Nat} {ns : List Nd} (h : CA F G u d c ns) : zT u c ≠ 6 := by
  cases d with
  | zero => exact absurd h id
  | succ d =>
    obtain ⟨-, h⟩ := h
    rcases h with h | h | h | h | h <;> (rw [h.1]; decide)
/-- one number behind the meanings -/
theorem Weq_m {m m' : Mu} {W : Wv} {n : Nat} (hs : slc m 0 = W) (hn : n = nM W) (h : ∀ k, k ≠ 20 → k ≠ 21 → k ≠ 22 → m'.2 k = m.2 k) (h' : ∀ k i, i ≠ n → m'.2 k i = m.2 k i) : Weq W (slc m' 0) := by
  have wo : ∀ k, k ≠ 20 → k ≠ 21 → k ≠ 22 → slc m' 0 k = W k := fun k h1 h2 h3 => by
    rw [← hs]; funext j; unfold slc; rw [h k h1 h2 h3]
  have wi : ∀ k i, wid k = 12 → i ≠ n → slc m' 0 k i = W k i := fun k i hw hi => by
    rw [← hs]; unfold slc
    rw [hw]
    by_cases z : i < 12
    · rw [if_pos z, if_pos z, h' k _ (by omega)]
    · rw [if_neg z, if_neg z]
  refine ⟨⟨by rw [wo 12 (by decide) (by decide) (by decide)], by rw [wo 19 (by decide) (by decide) (by decide)], by rw [wo 27 (by decide) (by decide) (by decide)], by rw [wo 32 (by decide) (by decide) (by decide)]⟩, fun f _ => ⟨by rw [wo 13 (by decide) (by decide) (by decide)], by rw [wo 14 (by decide) (by decide) (by decide)], by rw [wo 15 (by decide) (by decide) (by decide)], by rw [wo 17 (by decide) (by decide) (by decide)], by rw [wo 18 (by decide) (by decide) (by decide)], fun j _ => by rw [wo 16 (by decide) (by decide) (by decide)]⟩, fun k hk => ⟨wi 20 k rfl (by omega), wi 21 k rfl (by omega), wi 22 k rfl (by omega)⟩, fun k hk => ⟨by rw [wo 28 (by decide) (by decide) (by decide)], by rw [wo 29 (by decide) (by decide) (by decide)], by rw [wo 30 (by decide) (by decide) (by decide)], by rw [wo 31 (by decide) (by decide) (by decide)]⟩⟩

/-! THE TWIN'S WAYS: digits, the first way, the next, a way's answer -/
theorem nF_e {W : Wv} (h : WM W) : W 12 0 = (nF W : Int) ∧ nF W ≤ 8 := by have := h.1; unfold nF; omega
theorem nS_e {W : Wv} (h : WM W) {f : Nat} (hf : f < nF W) : W 39 f = (nS W f : Int) ∧ 1 ≤ nS W f ∧ nS W f ≤ 601 := by have := h.2.2.2.2.2.2.1 f hf; unfold nS; omega
theorem st_bd {W : Wv} (h : WM W) {f : Nat} (hf : f < nF W) : ∀ k, k < nS W f → W 17 f ≤ W 38 (608 * f + k) ∧ 0 ≤ W 38 (608 * f + k) ∧ W 38 (608 * f + k) ≤ W 18 f ∧ W 18 f ≤ 999999999 := by
  obtain ⟨a1, a2, a3, a4, a5⟩ := h.2.2.2.2.2.2.1 f hf
  obtain ⟨b1, b2, b3, b4, b5, b6, b7, b8⟩ := h.2.1 f hf
  have hl : 0 ≤ W 17 f ∧ W 18 f ≤ 999999999 := by
    rcases (show W 14 f = 0 ∨ W 14 f = 1 ∨ W 14 f = 2 by omega) with e | e | e
    · have := b7 e; omega
    · have := b6 e; omega
    · have := b8 e; omega
  intro k
  induction k with
  | zero => intro hk; rw [Nat.add_zero]; have := a5 0 hk; rw [Nat.add_zero] at this; omega
  | succ k ih => intro hk; have h1 := ih (by omega); have h2 := a4 k hk; have h3 := a5 (k + 1) hk; omega
/-- the cell of a value -/
def cellD (W : Wv) (f : Nat) (v : Int) : Nat → Nat
  | 0 => 0
  | k + 1 => if W 38 (608 * f + (k + 1)) ≤ v then k + 1 else cellD W f v k
def cel (W : Wv) (f : Nat) (v : Int) : Nat := cellD W f v (nS W f - 1)
theorem cellD_le (W : Wv) (f : Nat) (v : Int) : ∀ k, cellD W f v k ≤ k := by
  intro k
  induction k with
  | zero => exact Nat.le_refl _
  | succ k ih => simp only [cellD]; split <;> omega
theorem cel_lt {W : Wv} (h : WM W) {f : Nat} (hf : f < nF W) (v : Int) : cel W f v < nS W f := by
  have := cellD_le W f v (nS W f - 1); have := nS_e h hf; unfold cel; omega
theorem cellD_st {W : Wv} {f : Nat} {v : Int} {k : Nat} (h : W 38 (608 * f + k) ≤ v) : cellD W f v k = k := by
  cases k with
  | zero => rfl
  | succ k => simp only [cellD]; rw [if_pos h]
/-- the class finds it -/
theorem c_cell {G : CG} {L : Ly} {u : Sg} {W : Wv} {a f : Nat} (hM : WM W) (hf : f < nF W) (h : SA L u W a f) {v : Int} (hv : W 17 f ≤ v) (hv2 : v < 2147483648) : f4_cell G (some a) v u = some (cel W f v : Int) := by
  obtain ⟨h1, h2, h3, r, h4, h5, h6⟩ := h
  obtain ⟨e1, e2, e3⟩ := nS_e hM hf
  have e0 := (hM.2.2.2.2.2.2.1 f hf).2.2.1
  have key := loop_ind (fun q (k : Nat) => f4_cell_l7 G (some a) v u q (k : Int)) (fun k => k) (fun k => k < nS W f ∧ cel W f v = cellD W f v k) (fun _ x => x = (cel W f v : Int)) (by
    rintro q k ⟨hk, hc⟩ ih
    show ok (f4_cell_l7 G (some a) v u (q + 1) (k : Int)) _
    unfold f4_cell_l7
    have hb := st_bd hM hf k hk
    have hb0 := st_bd hM hf 0 (by omega)
    rw [Nat.add_zero] at hb0
    refine ok_eq (gfR_v h2 h4) (ok_eq (alI_e k h5.2.1 rfl (by rw [h5.2.2]; exact hk) (by rw [h5.2.2]; omega)) ?_)
    rw [h6 k hk, w32_id (x := W 38 (608 * f + k)) (by omega) (by omega), w32_id (x := v) (by omega) hv2]
    refine ok_ite (fun hle => ok_some ?_) (fun hle => ?_)
    · rw [hc, cellD_st hle]
    · cases k with
      | zero => rw [Nat.add_zero] at hle; omega
      | succ k =>
        have e : (((k + 1 : Nat) : Int) + -1) = (k : Int) := by omega
        rw [e]
        refine ih k ⟨by omega, ?_⟩ (by omega)
        rw [hc]
        simp only [cellD]
        rw [if_neg hle]) NN (nS W f - 1) ⟨by omega, rfl⟩ (NN_gt (by omega))
  obtain ⟨x, ex, hx⟩ := key
  unfold f4_cell
  rw [gfI_v h2 h3, Option.bind_some, e1, show ((nS W f : Int) - 1) = ((nS W f - 1 : Nat) : Int) by omega]
  rw [ex, Option.bind_some, hx]
/-- the twin finds it -/
theorem m_cell {m : Mu} {w f : Nat} {W : Wv} (hw : slc m w = W) (hw12 : w ≤ 13) (hM : WM W) (hf : f < nF W) {v : Int} (hv : W 17 f ≤ v) (hv2 : v < 2147483648) : m5_digitOf w f v m = some (cel W f v : Int) := by
  obtain ⟨e1, e2, e3⟩ := nS_e hM hf
  have f8 := (nF_e hM).2
  have e0 := (hM.2.2.2.2.2.2.1 f hf).2.2.1
  have i8 : (8 * (w : Int) + (f : Int)) = ((8 * w + f : Nat) : Int) := by omega
  have key := loop_ind (fun q (k : Nat) => m5_digitOf_l19 v ((8 * w + f : Nat) : Int) m q (k : Int)) (fun k => k) (fun k => k < nS W f ∧ cel W f v = cellD W f v k) (fun _ x => x = (cel W f v : Int)) (by
    rintro q k ⟨hk, hc⟩ ih
    show ok (m5_digitOf_l19 v ((8 * w + f : Nat) : Int) m (q + 1) (k : Int)) _
    unfold m5_digitOf_l19
    have hb := st_bd hM hf k hk
    have hb0 := st_bd hM hf 0 (by omega)
    rw [Nat.add_zero] at hb0
    refine ok_eq (m_sl (w := w) (k := 38) (j := 608 * f + k) (by show _ < 4864; omega) (by show _ = ((4864 * w + (608 * f + k) : Nat) : Int); omega) (by show 4864 * w + (608 * f + k) < 68096; omega) (by omega)) ?_
    rw [hw, w32_id (x := W 38 (608 * f + k)) (by omega) (by omega), w32_id (x := v) (by omega) hv2]
    refine ok_ite (fun hle => ok_some ?_) (fun hle => ?_)
    · rw [hc, cellD_st hle]
    · cases k with
      | zero => rw [Nat.add_zero] at hle; omega
      | succ k =>
        have e : (((k + 1 : Nat) : Int) + -1) = (k : Int) := by omega
        rw [e]
        refine ih k ⟨by omega, ?_⟩ (by omega)
        rw [hc]
        simp only [cellD]
        rw [if_neg hle]) NN (nS W f - 1) ⟨by omega, rfl⟩ (NN_gt (by omega))
  obtain ⟨x, ex, hx⟩ := key
  unfold m5_digitOf
  have r39 : mald m 39 112 ((8 * w + f : Nat) : Int) = some (slc m w 39 f) := m_sl (w := w) (k := 39) (j := f) (by show f < 8; omega) rfl (by show 8 * w + f < 112; omega) (by omega)
  rw [i8, r39, Option.bind_some, hw, e1, show ((nS W f : Int) - 1) = ((nS W f - 1 : Nat) : Int) by omega]
  rw [ex, Option.bind_some, hx]
/-- the digit of a told value, -1 of one that isn't -/
def dgt (W : Wv) (vv : Nat → Int) (f : Nat) : Int := if 0 ≤ vv f then (cel W f (vv f) : Int) else -1
/-- the twin's digits and way -/
def WY (m : Mu) (w : Nat) (W : Wv) (dg : Nat → Int) (n : Nat) : Prop := slc m w = W ∧ (∀ f, f < nF W → m.2 76 f = dg f) ∧ ∀ f, f < nF W → m.2 77 f = (dig W n f : Int)
theorem m_firstWay {m : Mu} {w : Nat} {W : Wv} {dg : Nat → Int} (hw : slc m w = W) (hw12 : w ≤ 13) (hM : WM W) (hd : ∀ f, f < nF W → m.2 76 f = dg f) (hd2 : ∀ f, f < nF W → -1 ≤ dg f ∧ dg f < nS W f) : ∃ m', m5_firstWay w m = some m' ∧ mfr [] [77] m m' ∧ WY m' w W dg (fst0 W dg) := by
  obtain ⟨f0, f8⟩ := nF_e hM
  have key := loop_ind (fun q (s : Nat × Mu) => m5_firstWay_l2 w q (s.1 : Int) s.2) (fun s => nF W - s.1) (fun s => s.1 ≤ nF W ∧ mfr [] [77] m s.2 ∧ ∀ f, f < s.1 → s.2.2 77 f = ((dg f).toNat : Int)) (fun _ m' => mfr [] [77] m m' ∧ ∀ f, f < nF W → m'.2 77 f = ((dg f).toNat : Int)) (by
    rintro q ⟨i, s⟩ ⟨h1, h2, h3⟩ ih
    simp only at h1 h2 h3
    show ok (m5_firstWay_l2 w (q + 1) (i : Int) s) _
    unfold m5_firstWay_l2
    have hs : slc s w = W := by rw [← hw]; exact slc_of (fun j q1 q2 => h2.2 j (by simp; omega))
    refine ok_eq (m_sl (w := w) (k := 12) (j := 0) (by decide) (by show (w : Int) = ((1 * w + 0 : Nat) : Int); omega) (by show 1 * w + 0 < 14; omega) (by omega)) ?_
    rw [hs, f0, w32_n (by omega), w32_n (by omega)]
    refine ok_ite (fun hc => ok_some ?_) (fun hc => ?_)
    · have : i = nF W := by omega
      subst this
      exact ⟨h2, h3⟩
    · have hdi : s.2 76 i = dg i := by rw [h2.2 76 (by decide)]; exact hd i (by omega)
      obtain ⟨d1, d2⟩ := hd2 i (by omega)
      have ns := nS_e hM (f := i) (by omega)
      refine ok_mald i rfl (by omega) (by omega) ?_
      rw [hdi, w32_id (x := dg i) (by omega) (by omega)]
      have step : ∀ x : Int, x = ((dg i).toNat : Int) → ok (m5_firstWay_l2 w q ((i : Int) + 1) (ma s 77 i x)) (fun m' => mfr [] [77] m m' ∧ ∀ f, f < nF W → m'.2 77 f = ((dg f).toNat : Int)) := by
        intro x hx
        refine ih (i + 1, ma s 77 i x) ⟨by show i + 1 ≤ nF W; omega, mfr_ma h2 (by decide), fun f hf => ?_⟩ (by show nF W - (i + 1) < nF W - i; omega)
        show (ma s 77 i x).2 77 f = _
        rw [ma_s]
        by_cases hfi : f = i
        · rw [if_pos hfi, hfi, hx]
        · rw [if_neg hfi]; exact h3 f (by have hf : f < i + 1 := hf; omega)
      refine ok_ite (fun h0 => ?_) (fun h0 => ?_)
      · refine ok_mald i rfl (by omega) (by omega) (ok_mast i rfl (by omega) (by omega) ?_)
        rw [hdi]
        exact step _ (by omega)
      · exact ok_mast i rfl (by omega) (by omega) (step _ (by omega))) NN (0, m) ⟨Nat.zero_le _, mfr_rf, fun f hf => by omega⟩ (NN_gt (by show nF W - 0 < 100000; omega))
  obtain ⟨m', e1, h1, h2⟩ := key
  refine ⟨m', ?_, h1, by rw [← hw]; exact slc_of (fun j q1 q2 => h1.2 j (by simp; omega)), fun f hf => by rw [h1.2 76 (by decide)]; exact hd f hf, fun f hf => ?_⟩
  · unfold m5_firstWay
    have e1' : m5_firstWay_l2 w NN 0 m = some m' := e1
    rw [e1']
    rfl
  · rw [h2 f hf, (fst_in (fun f hf => (nS_e hM hf).2.1) (fun f hf => (hd2 f hf).2)).2 f hf]
theorem m_wayAnswer {m : Mu} {w : Nat} {W : Wv} {dg : Nat → Int} {n : Nat} (hw12 : w ≤ 13) (hM : WM W) (h : WY m w W dg n) (hn : n < ug W 0) : m5_wayAnswer w m = some (b2i (ansO W (val0 W n))) := by
  obtain ⟨hw, hd, hy⟩ := h
  obtain ⟨f0, f8⟩ := nF_e hM
  have hT := hM.2.2.2.2.2.2.2.1
  rw [← ug_0] at hT
  have key := loop_ind (fun q (s : Nat × Nat) => m5_wayAnswer_l4 w m q (s.1 : Int) (s.2 : Int)) (fun s => nF W - s.2) (fun s => s.2 ≤ nF W ∧ s.1 = hor W (dig W n) s.2) (fun _ x => x = (n : Int)) (by
    rintro q ⟨c, i⟩ ⟨h1, h2⟩ ih
    simp only at h1 h2
    show ok (m5_wayAnswer_l4 w m (q + 1) (c : Int) (i : Int)) _
    unfold m5_wayAnswer_l4
    refine ok_eq (m_sl (w := w) (k := 12) (j := 0) (by decide) (by show (w : Int) = ((1 * w + 0 : Nat) : Int); omega) (by show 1 * w + 0 < 14; omega) (by omega)) ?_
    rw [hw, f0, w32_n (by omega), w32_n (by omega)]
    refine ok_ite (fun hc => ok_some ?_) (fun hc => ?_)
    · have : i = nF W := by omega
      subst this
      rw [h2, hor_all hn]
    · obtain ⟨e1, e2, e3⟩ := nS_e hM (f := i) (by omega)
      refine ok_eq (m_sl (w := w) (k := 39) (j := i) (by show i < 8; omega) (by show _ = ((8 * w + i : Nat) : Int); omega) (by show 8 * w + i < 112; omega) (by omega)) (ok_mald i rfl (by omega) (by omega) ?_)
      rw [hw, e1, hy i (by omega)]
      have := ih (hor W (dig W n) (i + 1), i + 1) ⟨by show i + 1 ≤ nF W; omega, rfl⟩ (by show nF W - (i + 1) < nF W - i; omega)
      have e9 : ((c : Int) * (nS W i : Int) + (dig W n i : Int)) = ((hor W (dig W n) (i + 1) : Nat) : Int) := by
        rw [h2]
        show _ = ((hor W (dig W n) i * nS W i + dig W n i : Nat) : Int)
        rw [Int.natCast_add, Int.natCast_mul]
      rw [e9]
      exact this) NN (0, 0) ⟨Nat.zero_le _, rfl⟩ (NN_gt (by show nF W - 0 < 100000; omega))
  obtain ⟨x, ex, rfl⟩ := key
  unfold m5_wayAnswer
  have ex' : m5_wayAnswer_l4 w m NN 0 0 = some (n : Int) := ex
  have hT2 : (n : Int) < 2000 := by omega
  rw [ex', Option.bind_some, m_sl (w := w) (k := 41) (j := n) (by show n < 2000; omega) (by show _ = ((2000 * w + n : Nat) : Int); omega) (by show 2000 * w + n < 28000; omega) (by omega), Option.bind_some, hw, hM.2.2.2.2.2.2.2.2.1 n (by rw [← ug_0]; exact hn), w32_b2i]
  cases ansO W (val0 W n) <;> rfl
/-- the next way, or none -/
theorem m_nextWay {m : Mu} {w : Nat} {W : Wv} {dg : Nat → Int} {n : Nat} (hw12 : w ≤ 13) (hM : WM W) (hd2 : ∀ f, f < nF W → -1 ≤ dg f ∧ dg f < nS W f) (h : WY m w W dg n) (hn : inM W dg n) : ∃ m', mfr [] [77] m m' ∧ ((m5_nextWay w m = some (0, m') ∧ slc m' w = W ∧ (∀ f, f < nF W → m'.2 76 f = dg f) ∧ ∀ n', inM W dg n' → n' ≤ n) ∨ ∃ n1, m5_nextWay w m = some (1, m') ∧ WY m' w W dg n1 ∧ inM W dg n1 ∧ n < n1 ∧ ∀ n', inM W dg n' → n < n' → n1 ≤ n') := by
  obtain ⟨hw, hd, hy⟩ := h
  obtain ⟨f0, f8⟩ := nF_e hM
  have hS : ∀ f, f < nF W → 1 ≤ nS W f := fun f hf => (nS_e hM hf).2.1
  have hdl : ∀ f, f < nF W → dg f < nS W f := fun f hf => (hd2 f hf).2
  have key := loop_ind (fun q (s : Nat × Mu) => m5_nextWay_l9 w q ((s.1 : Int) - 1) s.2) (fun s => s.1) (fun s => s.1 ≤ nF W ∧ mfr [] [77] m s.2 ∧ (∀ g, g < s.1 → s.2.2 77 g = (dig W n g : Int)) ∧ (∀ g, s.1 ≤ g → g < nF W → s.2.2 77 g = ((dg g).toNat : Int)) ∧ ∀ n', inM W dg n' → n' % ug W s.1 ≤ n % ug W s.1) (fun _ r => (∃ m', r = .inr m' ∧ mfr [] [77] m m' ∧ ∀ n', inM W dg n' → n' ≤ n) ∨ ∃ m' n1, r = .inl m' ∧ mfr [] [77] m m' ∧ (∀ f, f < nF W → m'.2 77 f = (dig W n1 f : Int)) ∧ inM W dg n1 ∧ n < n1 ∧ ∀ n', inM W dg n' → n < n' → n1 ≤ n') (by
    rintro q ⟨k, s⟩ ⟨h1, h2, h3, h4, h5⟩ ih
    simp only at h1 h2 h3 h4 h5
    show ok (m5_nextWay_l9 w (q + 1) ((k : Int) - 1) s) _
    unfold m5_nextWay_l9
    rw [w32_id (by omega) (by omega)]
    refine ok_ite (fun hc => ok_some ?_) (fun hc => ?_)
    · have hk0 : k = 0 := by omega
      subst hk0
      refine Or.inl ⟨s, rfl, h2, fun n' hn' => ?_⟩
      have := h5 n' hn'
      rw [Nat.mod_eq_of_lt hn'.1, Nat.mod_eq_of_lt hn.1] at this
      exact this
    · obtain ⟨f, rfl⟩ : ∃ f, k = f + 1 := ⟨k - 1, by omega⟩
      have ef : (((f + 1 : Nat) : Int) - 1) = (f : Int) := by omega
      have ef2 : ((f : Int) + -1) = (f : Int) - 1 := by omega
      rw [ef, ef2]
      have hff : f < nF W := by omega
      have hs : slc s w = W := by rw [← hw]; exact slc_of (fun j q1 q2 => h2.2 j (by simp; omega))
      obtain ⟨d1, d2⟩ := hd2 f hff
      obtain ⟨ns1, ns2, ns3⟩ := nS_e hM hff
      have hdl9 := dig_lt hS (c := n) hff
      have hdf : s.2 76 f = dg f := by rw [h2.2 76 (by decide)]; exact hd f hff
      refine ok_mald f rfl (by omega) (by omega) ?_
      rw [hdf, w32_id (x := dg f) (by omega) (by omega)]
      refine ok_ite (fun hneg => ?_) (fun hpos => ?_)
      · refine ok_mald f rfl (by omega) (by omega) (ok_mast f rfl (by omega) (by omega) (ok_mald f rfl (by omega) (by omega) ?_))
        rw [h3 f (by omega)]
        refine ok_eq (m_sl (w := w) (k := 39) (j := f) (by show f < 8; omega) (by show _ = ((8 * w + f : Nat) : Int); omega) (by show 8 * w + f < 112; omega) (by omega)) ?_
        rw [slc_ma (by omega), hs, ns1, ma_s, if_pos rfl, w32_n (by omega), w32_id (by omega) (by omega)]
        refine ok_ite (fun hge => ?_) (fun hlt => ok_some ?_)
        · refine ok_mast f rfl (by omega) (by omega) ?_
          refine ih (f, _) ⟨by show f ≤ nF W; omega, mfr_ma (mfr_ma h2 (by decide)) (by decide), fun g hg => ?_, fun g hg1 hg2 => ?_, low_max hS hn hff (Or.inr (show dig W n f + 1 = nS W f by omega)) h5⟩ (by show f < f + 1; omega)
          · have hg : g < f := hg
            show (ma (ma s 77 f _) 77 f 0).2 77 g = _
            rw [ma_s, if_neg (by omega), ma_s, if_neg (by omega)]; exact h3 g (by omega)
          · have hg1 : f ≤ g := hg1
            show (ma (ma s 77 f _) 77 f 0).2 77 g = _
            rw [ma_s]
            by_cases hgf : g = f
            · rw [if_pos hgf, hgf]; omega
            · rw [if_neg hgf, ma_s, if_neg hgf]; exact h4 g (by omega) hg2
        · obtain ⟨x1, x2, x3, x4⟩ := nxt_ok hS hdl hn hff hneg (by omega) h5
          refine Or.inr ⟨_, nxt W dg n f, rfl, mfr_ma h2 (by decide), fun g hg => ?_, x1, x2, x3⟩
          rw [x4 g hg, ma_s]
          by_cases hgf : g = f
          · rw [if_pos hgf, if_neg (by omega), if_pos hgf]; omega
          · rw [if_neg hgf]
            by_cases hlt2 : g < f
            · rw [if_pos hlt2]; exact h3 g (by omega)
            · rw [if_neg hlt2, if_neg hgf]; exact h4 g (by omega) hg
      · refine ih (f, s) ⟨by show f ≤ nF W; omega, h2, fun g hg => h3 g (by have hg : g < f := hg; omega), fun g hg1 hg2 => ?_, low_max hS hn hff (Or.inl (show 0 ≤ dg f by omega)) h5⟩ (by show f < f + 1; omega)
        have hg1 : f ≤ g := hg1
        by_cases hgf : g = f
        · rw [hgf]
          show s.2 77 f = _
          rw [h3 f (by omega)]
          have := hn.2 f hff (by omega)
          omega
        · exact h4 g (by omega) hg2) NN (nF W, m) ⟨Nat.le_refl _, mfr_rf, fun g hg => hy g hg, fun g hg1 hg2 => absurd hg2 (by have hg1 : nF W ≤ g := hg1; omega), fun n' _ => by show n' % ug W (nF W) ≤ n % ug W (nF W); rw [ug_F]; omega⟩ (NN_gt (by show nF W < 100000; omega))
  obtain ⟨r, er, hr⟩ := key
  have er' : m5_nextWay_l9 w NN ((nF W : Int) - 1) m = some r := er
  have hx : mald m 12 14 w = some (nF W : Int) := by
    rw [m_sl (w := w) (k := 12) (j := 0) (by decide) (by show (w : Int) = ((1 * w + 0 : Nat) : Int); omega) (by show 1 * w + 0 < 14; omega) (by omega), hw, f0]
  rcases hr with ⟨m', rfl, h1, h2⟩ | ⟨m', n1, rfl, h1, h2, h3, h4, h5⟩
  · refine ⟨m', h1, Or.inl ⟨?_, by rw [← hw]; exact slc_of (fun j q1 q2 => h1.2 j (by simp; omega)), fun f hf => by rw [h1.2 76 (by decide)]; exact hd f hf, h2⟩⟩
    unfold m5_nextWay
    rw [hx, Option.bind_some, er', Option.bind_some]
    rfl
  · refine ⟨m', h1, Or.inr ⟨n1, ?_, ⟨by rw [← hw]; exact slc_of (fun j q1 q2 => h1.2 j (by simp; omega)), fun f hf => by rw [h1.2 76 (by decide)]; exact hd f hf, h2⟩, h3, h4, h5⟩⟩
    unfold m5_nextWay
    rw [hx, Option.bind_some, er', Option.bind_some]
    rfl

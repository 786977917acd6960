/-! AN EVENT'S WAYS on both sides; THE CALLS covers and ways -/
/-- the value told of the fact f of the event e -/
def vvE (m : Mu) (e : Nat) (day : Int) (f : Nat) : Int := onV (m.2 75 (8 * e + f)) (fun k => m.2 73 (6 * (8 * e + f) + k)) (fun k => m.2 74 (6 * (8 * e + f) + k)) day (-1)
theorem vvE_bd {G : CG} {L : Ly} {u : Sg} {m : Mu} {e : Nat} (h : EE G L u m e) (day : Int) {f : Nat} (hf : f < nF (slc m (m.2 72 e).toNat)) : vvE m e day f = -1 ∨ (slc m (m.2 72 e).toNat 17 f ≤ vvE m e day f ∧ vvE m e day f ≤ slc m (m.2 72 e).toNat 18 f) := by
  obtain ⟨-, -, -, -, -, l, -, -, b8⟩ := h
  obtain ⟨k1, k2⟩ := b8 f hf
  have hn := k1.2.2.2.2.1
  unfold vvE onV
  rcases onS_in (fun k => m.2 73 (6 * (8 * e + f) + k)) (fun k => m.2 74 (6 * (8 * e + f) + k)) day (-1) (m.2 75 (8 * e + f)).toNat (fun k hk => (k2 k (by omega)).2.1) with q | ⟨g, hg, q⟩
  · rw [q]; exact Or.inl rfl
  · rw [q]
    have := (k2 g (by omega)).1
    exact this
theorem toldE_of {G : CG} {L : Ly} {u : Sg} {m : Mu} {e : Nat} (h : EE G L u m e) (day : Int) {F : Nat} (hF : F ≤ nF (slc m (m.2 72 e).toNat)) : toldE G L u (L.1 (400 + e)) F day (vvE m e day) := by
  obtain ⟨b1, b2, b3, b4, b5, l, b6, b7, b8⟩ := h
  refine ⟨b3, b4, l, b6, _, _, b7, hF, fun f hf => ?_⟩
  obtain ⟨k1, k2⟩ := b8 f (by omega)
  exact ⟨1000 + 64 * e + 8 * f, _, _, _, rfl, by omega, k1, fun k hk => (k2 k hk).2, rfl⟩
theorem dgt_bd {W : Wv} (hM : WM W) (vv : Nat → Int) {f : Nat} (hf : f < nF W) : -1 ≤ dgt W vv f ∧ dgt W vv f < nS W f := by
  have := cel_lt hM hf (vv f)
  unfold dgt
  split <;> omega
/-- look and takeDigits, for an event and a day that are right -/
theorem look_ok {G : CG} {L : Ly} {u : Sg} {m : Mu} (h : RC G L u m) {e : Nat} {day : Int} (h1 : 1 ≤ e) (h2 : (e : Int) ≤ m.1 71) (hday : w32 day = day) (hd : 0 ≤ day ∧ day ≤ 9999) : ∃ (w K : Nat) (u' : Sg) (m' : Mu), 1 ≤ w ∧ w ≤ 12 ∧ (w : Int) ≤ m.1 11 ∧ m.2 72 e = (w : Int) ∧ WM (slc m w) ∧ f0_look G (some (L.1 3)) e day u = some (0, u') ∧ scr L u u' ∧ WA G L u' (L.1 (300 + w)) (slc m w) ∧ WS L u' (slc m w) (L.1 (300 + w)) (dgt (slc m w) (vvE m e day)) K ∧ m5_takeDigits w e day m = some m' ∧ mfr [] [76] m m' ∧ slc m' w = slc m w ∧ (∀ f, f < nF (slc m w) → m'.2 76 f = dgt (slc m w) (vvE m e day) f) := by
  obtain ⟨w, w1, w2, w12, w3, hEE, hM, hA, w4, w5⟩ := ev_at h h1 h2
  have e32 := h.2.2.2.2.2.1.2.1
  have hwn : (m.2 72 e).toNat = w := by omega
  have hbd : ∀ f, f < nF (slc m w) → vvE m e day f = -1 ∨ (slc m w 17 f ≤ vvE m e day f ∧ vvE m e day f ≤ slc m w 18 f) := fun f hf => by
    have := vvE_bd hEE day (f := f) (by rw [hwn]; exact hf)
    rw [hwn] at this
    exact this
  obtain ⟨u', K, e1, s1, s2⟩ := c_set h hM hA hday (toldE_of hEE day (by rw [hwn]; exact Nat.le_refl _)) hbd
  obtain ⟨m', e2, f1, f2⟩ := m_takeDigits (m := m) (w := w) (e := e) (vv := vvE m e day) rfl (by omega) (by omega) hM hday (fun f hf => by
    obtain ⟨-, -, -, -, -, l, -, -, b8⟩ := hEE
    rw [hwn] at b8
    obtain ⟨k1, k2⟩ := b8 f hf
    exact ⟨k1.2.2.2.2.1, k1.2.2.2.2.2.1, fun k hk => (k2 k hk).2⟩) (fun f hf => rfl) hbd
  refine ⟨w, K, u', m', w1, w12, w2, w3, hM, ?_, s1, WA_k (frz_scr s1) hA, s2, e2, f1, slc_of (fun j q1 q2 => f1.2 j (by simp; omega)), f2⟩
  have hE := h.2.2.2.2.2.1
  unfold f0_look
  obtain ⟨b1, b2, b3, b4, b5, l, b6, b7, b8⟩ := hEE
  rw [hwn] at b5
  refine ok_is (ok_eq (ztg_e (rT3 h.1)) (ok_eq (c_isE h (w32_id (by omega) (by omega))) ?_))
  rw [decide_eq_true (by omega)]
  refine ok_neg (by decide) (ok_eq (c_isDay hday) ?_)
  rw [decide_eq_true (by omega)]
  refine ok_neg (by decide) (ok_eq (gfR_v (rT3 h.1) (rR3_6 h.1)) (ok_eq (ztg_e hE.2.2.1.1.1) (ok_eq (ev_get h h1 h2) (ok_eq (zcast_1 b4) (ok_eq (gfR_v (rT3 h.1) (rR3_14 h.1)) (ok_eq (gfR_v b4 b5) (ok_eq (ztg_e (rT114 h.1)) (ok_eq e1 (ok_some rfl)))))))))
/-- look, of an event or a day that isn't right -/
theorem look_bad {G : CG} {L : Ly} {u : Sg} {m : Mu} (h : RC G L u m) {e day : Int} (he : w32 e = e) (hday : w32 day = day) (hb : ¬ ((1 ≤ e ∧ e ≤ m.1 71) ∧ 0 ≤ day ∧ day ≤ 9999)) : ∃ x : Int, (x = -1 ∨ x = -2) ∧ f0_look G (some (L.1 3)) e day u = some (x, u) ∧ m5_noEvent e day m = some x := by
  unfold f0_look m5_noEvent
  rw [ztg_e (rT3 h.1), Option.bind_some, c_isE h he, Option.bind_some, m_isE h he, Option.bind_some, w32_b2i]
  by_cases h1 : 1 ≤ e ∧ e ≤ m.1 71
  · rw [decide_eq_true h1, if_neg (by decide), if_neg (by decide), c_isDay hday, m_isDay hday, Option.bind_some, Option.bind_some, w32_b2i, decide_eq_false (by omega), if_pos (by decide), if_pos (by decide)]
    exact ⟨-2, Or.inr rfl, rfl, rfl⟩
  · rw [decide_eq_false h1, if_pos (by decide), if_pos (by decide)]
    exact ⟨-1, Or.inl rfl, rfl, rfl⟩
theorem noEvent_ok {G : CG} {L : Ly} {u : Sg} {m : Mu} (h : RC G L u m) {e day : Int} (he : w32 e = e) (hday : w32 day = day) (h1 : 1 ≤ e ∧ e ≤ m.1 71) (h2 : 0 ≤ day ∧ day ≤ 9999) : m5_noEvent e day m = some 0 := by
  unfold m5_noEvent
  rw [m_isE h he, Option.bind_some, w32_b2i, decide_eq_true h1, if_neg (by decide), m_isDay hday, Option.bind_some, w32_b2i, decide_eq_true h2, if_neg (by decide)]
/-- all known facts together give the digits -/
theorem dgs_K {L : Ly} {u : Sg} {W : Wv} {wa : Nat} {dg : Nat → Int} {K : Nat} (h : WS L u W wa dg K) (hd : ∀ f, f < nF W → -1 ≤ dg f) : ∀ f, f < nF W → dgs dg K f = dg f := by
  intro f hf
  unfold dgs
  rw [h.2.2.2.1 f]
  by_cases h0 : 0 ≤ dg f
  · rw [if_pos (by simp [hf, h0])]
  · rw [if_neg (by simp [h0])]; have := hd f hf; omega
theorem mtB_cg {W : Wv} {d d' : Nat → Int} {n : Nat} : ∀ k, (∀ f, f < k → d f = d' f) → mtB W d n k = mtB W d' n k := by
  intro k
  induction k with
  | zero => intro _; rfl
  | succ k ih => intro h; simp only [mtB]; rw [ih (fun f hf => h f (by omega)), h k (by omega)]
theorem cntA_cg {W : Wv} {d d' : Nat → Int} {a : Bool} (h : ∀ f, f < nF W → d f = d' f) : ∀ k, cntA W d a k = cntA W d' a k := by
  intro k
  induction k with
  | zero => rfl
  | succ k ih =>
    simp only [cntA]
    have : mt W d k = mt W d' k := mtB_cg _ h
    rw [ih, this]
theorem setl_cg {W : Wv} {d d' : Nat → Int} (h : ∀ f, f < nF W → d f = d' f) : setl W d = setl W d' := by unfold setl; rw [cntA_cg h, cntA_cg h]
theorem setl_3 (W : Wv) (dg : Nat → Int) : setl W dg = 0 ∨ setl W dg = 1 ∨ setl W dg = 2 := by unfold setl; split; simp; split <;> simp
theorem WS_bit {L : Ly} {u : Sg} {W : Wv} {wa : Nat} {dg : Nat → Int} {K : Nat} (h : WS L u W wa dg K) {f : Nat} (hb : K.testBit f = true) : f < nF W ∧ 0 ≤ dg f := by rw [h.2.2.2.1 f, decide_eq_true_eq] at hb; exact hb
theorem o_covers {G : CG} {L : Ly} {u : Sg} {m : Mu} (h : RC G L u m) (e k : Int) (he : w32 e = e) (hk : w32 k = k) : sim (f0_covers G (some (L.1 3)) e k u) (m5_covers e k m) (aft G L) := by
  unfold f0_covers m5_covers
  refine sim_L (ztg_e (rT3 h.1)) ?_
  by_cases hg : (1 ≤ e ∧ e ≤ m.1 71) ∧ 0 ≤ k ∧ k ≤ 9999
  · obtain ⟨n, rfl⟩ : ∃ n : Nat, e = n := ⟨e.toNat, by omega⟩
    obtain ⟨w, K, u', m', w1, w12, w2, w3, hM, e1, s1, hA', hS', e2, f1, f2, f3⟩ := look_ok h (e := n) (day := k) (by omega) (by omega) hk hg.2
    have n32 := h.2.2.2.2.2.1.2.1
    refine sim_L e1 (sim_posL (show 0 ≤ w32 0 by decide) (sim_R (noEvent_ok h he hk hg.1 hg.2) (sim_posR (by decide) ?_)))
    refine sim_mald n rfl (by omega) (by omega) ?_
    rw [w3]
    refine sim_R e2 (sim_mald n rfl (by omega) (by omega) ?_)
    rw [f1.2 72 (by decide), w3]
    have h' := RC_scr h s1
    have hR' := h'.1
    have hd2 : ∀ f, f < nF (slc m w) → -1 ≤ dgt (slc m w) (vvE m n k) f ∧ dgt (slc m w) (vvE m n k) f < nS (slc m w) f := fun f hf => dgt_bd hM _ hf
    obtain ⟨m2, e3, f4⟩ := m_settled f2 (by omega) hM f3 hd2
    obtain ⟨u2, e4, s2, hS2⟩ := c_answerBy h' hM hA' hS' hS'.2.2.1 (fun f _ hb => (WS_bit hS' hb).2) (fun f hf => (hd2 f hf).2)
    refine sim_L (gfR_v (rT3 hR') (rR3_14 hR')) (sim_L (gfR_v (rT3 hR') (rR3_14 hR')) (sim_L (gfI_v (rT114 hR') hS'.2.1) (sim_L (ztg_e (rT114 hR')) (sim_L e4 (sim_R e3 (sim_some ⟨?_, ?_⟩))))))
    · exact setl_cg (dgs_K hS' (fun f hf => (hd2 f hf).1))
    · exact RC_msc (RC_scr h (scr_tr s1 s2)) (mfr_up (mfr_tr (mfr_up f1 (fun k hk => hk) (fun k hk => by revert hk; simp; omega) : mfr [] [76, 77] m m') (mfr_up f4 (fun k hk => hk) (fun k hk => by revert hk; simp; omega))) (by simp) (by decide))
  · obtain ⟨x, hx, e1, e2⟩ := look_bad h he hk hg
    refine sim_L e1 (sim_R e2 (sim_negL (by show ¬ 0 ≤ w32 x; rcases hx with rfl | rfl <;> decide) (sim_negR (by rcases hx with rfl | rfl <;> decide) (sim_R e2 (sim_some ⟨rfl, h⟩)))))
theorem o_ways {G : CG} {L : Ly} {u : Sg} {m : Mu} (h : RC G L u m) (e k a : Int) (he : w32 e = e) (hk : w32 k = k) (ha : w32 a = a) : sim (f0_ways G (some (L.1 3)) e k a u) (m5_ways e k a m) (aft G L) := by
  unfold f0_ways m5_ways
  by_cases hg : (1 ≤ e ∧ e ≤ m.1 71) ∧ 0 ≤ k ∧ k ≤ 9999
  · refine sim_L (ztg_e (rT3 h.1)) (sim_L (c_isE h he) (sim_R (noEvent_ok h he hk hg.1 hg.2) ?_))
    rw [w32_b2i, decide_eq_true hg.1]
    refine sim_negL (by decide) (sim_L (c_isDay hk) ?_)
    rw [w32_b2i, decide_eq_true hg.2, ha]
    refine sim_negL (by decide) (sim_posR (by decide) (sim_ite Iff.rfl (fun _ => sim_some ⟨rfl, h⟩) (fun a0 => sim_ite Iff.rfl (fun a1 => ?_) (fun _ => sim_some ⟨rfl, h⟩))))
    obtain ⟨n, rfl⟩ : ∃ n : Nat, e = n := ⟨e.toNat, by omega⟩
    obtain ⟨w, K, u', m', w1, w12, w2, w3, hM, e1, s1, hA', hS', e2, f1, f2, f3⟩ := look_ok h (e := n) (day := k) (by omega) (by omega) hk hg.2
    have n32 := h.2.2.2.2.2.1.2.1
    have h' := RC_scr h s1
    have hR' := h'.1
    have hd2 : ∀ f, f < nF (slc m w) → -1 ≤ dgt (slc m w) (vvE m n k) f ∧ dgt (slc m w) (vvE m n k) f < nS (slc m w) f := fun f hf => dgt_bd hM _ hf
    obtain ⟨m2, e3, f4, c0, c1⟩ := m_countWays f2 (by omega) hM f3 hd2
    obtain ⟨u2, e4, s2, hS2, d0, d1⟩ := c_count h' hM hA' hS' hS'.2.2.1 (fun f _ hb => (WS_bit hS' hb).2) (fun f hf => (hd2 f hf).2)
    have hR2 := (RC_scr h' s2).1
    refine sim_mald n rfl (by omega) (by omega) ?_
    rw [w3]
    refine sim_R e2 (sim_mald n rfl (by omega) (by omega) ?_)
    rw [f1.2 72 (by decide), w3]
    obtain ⟨i, rfl⟩ : ∃ i : Nat, a = i := ⟨a.toNat, by omega⟩
    refine sim_L (ztg_e (rT3 h.1)) (sim_L e1 (sim_L (gfR_v (rT3 hR') (rR3_14 hR')) (sim_L (gfR_v (rT3 hR') (rR3_14 hR')) (sim_L (gfI_v (rT114 hR') hS'.2.1) (sim_L (ztg_e (rT114 hR')) (sim_L e4 ?_))))))
    refine sim_L (gfR_v (rT3 hR2) (rR3_14 hR2)) (sim_L (gfR_v (rT114 hR2) (rR114_84 hR2)) (sim_L (alI_e i (rT144 hR2) rfl (by rw [rL144 hR2]; omega) (by rw [rL144 hR2]; omega)) (sim_R e3 (sim_mald i rfl (by omega) (by omega) (sim_some ⟨?_, ?_⟩)))))
    · show zA u2 (L.1 144) i = m2.2 78 i
      have cg := dgs_K hS' (fun f hf => (hd2 f hf).1)
      rcases (show i = 0 ∨ i = 1 by omega) with rfl | rfl
      · rw [d0, c0, cntA_cg cg]
      · rw [d1, c1, cntA_cg cg]
    · exact RC_msc (RC_scr h (scr_tr s1 s2)) (mfr_up (mfr_tr (mfr_up f1 (fun k hk => hk) (fun k hk => by revert hk; simp; omega) : mfr [] [76, 77, 78] m m') (mfr_up f4 (fun k hk => hk) (fun k hk => by revert hk; simp; omega))) (by simp) (by decide))
  · by_cases h1 : 1 ≤ e ∧ e ≤ m.1 71
    · have e2 : m5_noEvent e k m = some (-2) := by
        unfold m5_noEvent
        rw [m_isE h he, Option.bind_some, w32_b2i, decide_eq_true h1, if_neg (by decide), m_isDay hk, Option.bind_some, w32_b2i, decide_eq_false (by omega), if_pos (by decide)]
      refine sim_L (ztg_e (rT3 h.1)) (sim_L (c_isE h he) (sim_R e2 ?_))
      rw [w32_b2i, decide_eq_true h1]
      refine sim_negL (by decide) (sim_L (c_isDay hk) ?_)
      rw [w32_b2i, decide_eq_false (by omega)]
      exact sim_posL (by decide) (sim_negR (by decide) (sim_R e2 (sim_some ⟨rfl, h⟩)))
    · have e2 : m5_noEvent e k m = some (-1) := by
        unfold m5_noEvent
        rw [m_isE h he, Option.bind_some, w32_b2i, decide_eq_false h1, if_pos (by decide)]
      refine sim_L (ztg_e (rT3 h.1)) (sim_L (c_isE h he) (sim_R e2 ?_))
      rw [w32_b2i, decide_eq_false h1]
      exact sim_posL (by decide) (sim_negR (by decide) (sim_R e2 (sim_some ⟨rfl, h⟩)))

/-! pay, used, ceded -/
theorem PVc_bd {G : CG} {L : Ly} {u : Sg} {m : Mu} (h : RC G L u m) {p : Nat} {day : Int} (hday : w32 day = day) (c : Nat) : 0 ≤ PVc m p day c ∧ PVc m p day c ≤ 99999999 := by
  have ri := run_inv h (p := p) hday 41
  unfold PVc
  cases hd : (run m p day 41).1 c
  · rw [ri.2 c hd]; omega
  · exact (ri.1 c hd).2.2.2
theorem MAp {m m' : Mu} (h : mfr [] [76, 77, 95, 96] m m') : mfr MS0 MA0 m m' := mfr_up h (by simp) (by decide)
theorem c_pay {G : CG} {L : Ly} {u : Sg} {m : Mu} (h : RC G L u m) {c p : Nat} (c1 : 1 ≤ c) (c2 : (c : Int) ≤ m.1 87) (hp : m.2 88 c = (p : Int)) {day : Int} (hday : w32 day = day) (hd : 0 ≤ day ∧ day ≤ 9999) : ∃ u', f0_pay G (some (L.1 3)) c day u = some (PVc m p day c, u') ∧ scp L u u' := by
  have n40 := h.2.2.2.2.2.2.2.2.1
  have hR := h.1
  obtain ⟨b1, -, -, b4, b5, b6, -⟩ := h.2.2.2.2.2.2.2.2.2.2.1 c c1 c2
  obtain ⟨u', e1, s1, g1⟩ := c_payAll h (p := p) (by omega) (by omega) hday
  have h' := RC_scp h s1
  have hR' := h'.1
  refine ⟨u', ?_, s1⟩
  unfold f0_pay
  rw [ztg_e (rT3 hR), Option.bind_some, c_isK h (w32_n (by omega)), Option.bind_some, w32_b2i, decide_eq_true ⟨by omega, c2⟩, if_neg (by decide), c_isDay hday, Option.bind_some, w32_b2i, decide_eq_true hd, if_neg (by decide), gfR_v (rT3 hR) (rR3_8 hR), Option.bind_some, ztg_e (cl_T h), Option.bind_some, cl_geti h c1 c2 rfl, Option.bind_some, zcast_1 b1, Option.bind_some, gfI_v b1 b4, Option.bind_some, Option.bind_some, hp, e1, Option.bind_some, gfR_v (rT3 hR') (rR3_16 hR'), Option.bind_some, alI_e (c - 1) (rT116 hR') (by omega) (by rw [rL116 hR']; omega) (by rw [rL116 hR']; omega), Option.bind_some, g1 c c1 c2, if_pos hp]
theorem m_pay {G : CG} {L : Ly} {u : Sg} {m : Mu} (h : RC G L u m) {c p : Nat} (c1 : 1 ≤ c) (c2 : (c : Int) ≤ m.1 87) (hp : m.2 88 c = (p : Int)) {day : Int} (hday : w32 day = day) (hd : 0 ≤ day ∧ day ≤ 9999) : ∃ m', m5_pay c day m = some (PVc m p day c, m') ∧ mfr [] [76, 77, 95, 96] m m' := by
  have n40 := h.2.2.2.2.2.2.2.2.1
  obtain ⟨b1, -, -, b4, b5, b6, -⟩ := h.2.2.2.2.2.2.2.2.2.2.1 c c1 c2
  have p12 := h.2.2.2.2.2.2.1.2.1
  obtain ⟨m', e1, s1, g1⟩ := m_payAll h (p := p) (by omega) hday
  refine ⟨m', ?_, s1⟩
  unfold m5_pay
  rw [m_isK h (w32_n (by omega)), Option.bind_some, w32_b2i, decide_eq_true ⟨by omega, c2⟩, if_neg (by decide), m_isDay hday, Option.bind_some, w32_b2i, decide_eq_true hd, if_neg (by decide), mald_e c rfl (by omega) (by omega), Option.bind_some, hp, e1, Option.bind_some, mald_e c rfl (by omega) (by omega), Option.bind_some, g1 c c1 c2, if_pos hp]
theorem o_pay {G : CG} {L : Ly} {u : Sg} {m : Mu} (h : RC G L u m) (c day : Int) (hc : w32 c = c) (hday : w32 day = day) : sim (f0_pay G (some (L.1 3)) c day u) (m5_pay c day m) (aft G L) := by
  by_cases q1 : 1 ≤ c ∧ c ≤ m.1 87
  · by_cases q2 : 0 ≤ day ∧ day ≤ 9999
    · obtain ⟨n, rfl⟩ : ∃ n : Nat, c = n := ⟨c.toNat, by omega⟩
      obtain ⟨-, -, -, -, b5, -⟩ := h.2.2.2.2.2.2.2.2.2.2.1 n (by omega) q1.2
      obtain ⟨p, hp⟩ : ∃ p : Nat, m.2 88 n = p := ⟨(m.2 88 n).toNat, by omega⟩
      obtain ⟨u', e1, s1⟩ := c_pay h (c := n) (by omega) q1.2 hp hday q2
      obtain ⟨m', e2, s2⟩ := m_pay h (c := n) (by omega) q1.2 hp hday q2
      exact ⟨_, _, e1, e2, rfl, RC_msc (RC_scp h s1) (MAp s2)⟩
    · unfold f0_pay m5_pay
      rw [ztg_e (rT3 h.1), Option.bind_some, c_isK h hc, m_isK h hc, Option.bind_some, Option.bind_some, w32_b2i, decide_eq_true q1, if_neg (by decide), if_neg (by decide), c_isDay hday, m_isDay hday, Option.bind_some, Option.bind_some, w32_b2i, decide_eq_false q2, if_pos (by decide), if_pos (by decide)]
      exact sim_some ⟨rfl, h⟩
  · unfold f0_pay m5_pay
    rw [ztg_e (rT3 h.1), Option.bind_some, c_isK h hc, m_isK h hc, Option.bind_some, Option.bind_some, w32_b2i, decide_eq_false q1, if_pos (by decide), if_pos (by decide)]
    exact sim_some ⟨rfl, h⟩
/-- what the claims of a policy get, of a year or (with -1) in all -/
noncomputable def usedV (m : Mu) (p : Nat) (y day : Int) : Int := sumD (fun c => decide (m.2 88 c = (p : Int) ∧ (y < 0 ∨ m.2 90 c / 365 = y))) (PVc m p day) (m.1 87).toNat
theorem c_used {G : CG} {L : Ly} {u : Sg} {m : Mu} (h : RC G L u m) {p : Nat} (p1 : 1 ≤ p) (p2 : (p : Int) ≤ m.1 81) {y day : Int} (hy : -1 ≤ y ∧ y ≤ 27) (hday : w32 day = day) (hd : 0 ≤ day ∧ day ≤ 9999) : ∃ u', f0_used G (some (L.1 3)) p y day u = some (usedV m p y day, u') ∧ scp L u u' := by
  have n40 := h.2.2.2.2.2.2.2.2.1
  have n0 := h.2.2.2.2.2.2.2.1
  have p12 := h.2.2.2.2.2.2.1.2.1
  have hR := h.1
  obtain ⟨u', e1, s1, g1⟩ := c_payAll h (p := p) p1 p2 hday
  have h' := RC_scp h s1
  have hR' := h'.1
  obtain ⟨N, hN⟩ : ∃ N : Nat, m.1 87 = N := ⟨(m.1 87).toNat, by omega⟩
  have l116 := rL116 hR'
  have wy : w32 y = y := w32_id (by omega) (by omega)
  have key := loop_ind (fun q (i : Nat) => f0_used_l46 G (some (L.1 3)) p y u' q (sumD (fun c => decide (m.2 88 c = (p : Int) ∧ (y < 0 ∨ m.2 90 c / 365 = y))) (PVc m p day) i) (i : Int)) (fun i => N - i) (fun i => i ≤ N) (fun _ r => r = sumD (fun c => decide (m.2 88 c = (p : Int) ∧ (y < 0 ∨ m.2 90 c / 365 = y))) (PVc m p day) N) (by
    intro q i hi ih
    show ok (f0_used_l46 G (some (L.1 3)) p y u' (q + 1) (sumD (fun c => decide (m.2 88 c = (p : Int) ∧ (y < 0 ∨ m.2 90 c / 365 = y))) (PVc m p day) i) (i : Int)) _
    unfold f0_used_l46
    refine ok_eq (gfR_v (rT3 hR') (rR3_8 hR')) (ok_eq (ztg_e (cl_T h')) (ok_eq (cl_sz h') ?_))
    rw [show w32 (m.1 87) = (N : Int) by rw [hN]; exact w32_n (by omega), w32_n (by omega)]
    refine ok_ite (fun hz => ok_some (by rw [show i = N by omega])) (fun hz => ?_)
    have k1 : (1 : Nat) ≤ i + 1 := by omega
    have k2 : ((i + 1 : Nat) : Int) ≤ m.1 87 := by omega
    obtain ⟨b1, -, -, b4, b5, b6, -, -, -, b10, b11, b12, -⟩ := h'.2.2.2.2.2.2.2.2.2.2.1 (i + 1) k1 k2
    refine ok_eq (gfR_v (rT3 hR') (rR3_8 hR')) (ok_eq (ztg_e (cl_T h')) (ok_eq (cl_geti h' k1 k2 (by omega)) (ok_eq (zcast_1 b1) (ok_eq (gfI_v b1 b4) ?_))))
    rw [w32_id (x := m.2 88 (i + 1)) (by omega) (by omega), w32_n (by omega), wy]
    have hrec := ih (i + 1) (by omega) (by omega)
    simp only [sumD] at hrec
    have pvb := PVc_bd h (p := p) hday (i + 1)
    have take : m.2 88 (i + 1) = (p : Int) ∧ (y < 0 ∨ m.2 90 (i + 1) / 365 = y) → ok (f0_used_b102 G (f0_used_l46 G (some (L.1 3)) p y u' q) (some (L.1 3)) p y (sumD (fun c => decide (m.2 88 c = (p : Int) ∧ (y < 0 ∨ m.2 90 c / 365 = y))) (PVc m p day) i) (i : Int) u') (fun r => r = sumD (fun c => decide (m.2 88 c = (p : Int) ∧ (y < 0 ∨ m.2 90 c / 365 = y))) (PVc m p day) N) := by
      intro hc
      unfold f0_used_b102
      refine ok_eq (gfR_v (rT3 hR') (rR3_16 hR')) (ok_eq (alI_e i (rT116 hR') rfl (by omega) (by omega)) ?_)
      have := g1 (i + 1) k1 k2
      rw [show i + 1 - 1 = i by omega, if_pos hc.1] at this
      rw [this, w32_id (x := PVc m p day (i + 1)) (by omega) (by omega)]
      rw [if_pos (decide_eq_true hc)] at hrec
      exact hrec
    have skip : ¬ (m.2 88 (i + 1) = (p : Int) ∧ (y < 0 ∨ m.2 90 (i + 1) / 365 = y)) → ok (f0_used_l46 G (some (L.1 3)) p y u' q (sumD (fun c => decide (m.2 88 c = (p : Int) ∧ (y < 0 ∨ m.2 90 c / 365 = y))) (PVc m p day) i) ((i : Int) + 1)) (fun r => r = sumD (fun c => decide (m.2 88 c = (p : Int) ∧ (y < 0 ∨ m.2 90 c / 365 = y))) (PVc m p day) N) := by
      intro hc
      rw [if_neg (fun z => hc (of_decide_eq_true z)), Int.add_zero] at hrec
      exact hrec
    refine ok_ite (fun q1 => ok_ite (fun q2 => take ⟨q1, Or.inl q2⟩) (fun q2 => ok_eq (gfI_v b1 b10) ?_)) (fun q1 => skip (fun z => q1 z.1))
    rw [dv365 b11 b12]
    exact ok_ite (fun q3 => take ⟨q1, Or.inr q3⟩) (fun q3 => skip (fun z => z.2.elim q2 q3))) NN 0 (Nat.zero_le _) (NN_gt (by omega))
  obtain ⟨r, e2, rfl⟩ := key
  refine ⟨u', ?_, s1⟩
  unfold f0_used usedV
  have e2 : f0_used_l46 G (some (L.1 3)) p y u' NN 0 0 = some (sumD (fun c => decide (m.2 88 c = (p : Int) ∧ (y < 0 ∨ m.2 90 c / 365 = y))) (PVc m p day) N) := e2
  rw [ztg_e (rT3 hR), Option.bind_some, c_isP h (w32_n (by omega)), Option.bind_some, w32_b2i, decide_eq_true ⟨by omega, p2⟩, if_neg (by decide), wy, if_neg (by omega), if_neg (by omega), c_isDay hday, Option.bind_some, w32_b2i, decide_eq_true hd, if_neg (by decide), Option.bind_some, e1, Option.bind_some, e2, Option.bind_some, show (m.1 87).toNat = N by omega]
theorem m_used {G : CG} {L : Ly} {u : Sg} {m : Mu} (h : RC G L u m) {p : Nat} (p1 : 1 ≤ p) (p2 : (p : Int) ≤ m.1 81) {y day : Int} (hy : -1 ≤ y ∧ y ≤ 27) (hday : w32 day = day) (hd : 0 ≤ day ∧ day ≤ 9999) : ∃ m', m5_used p y day m = some (usedV m p y day, m') ∧ mfr [] [76, 77, 95, 96] m m' := by
  have n40 := h.2.2.2.2.2.2.2.2.1
  have n0 := h.2.2.2.2.2.2.2.1
  have p12 := h.2.2.2.2.2.2.1.2.1
  obtain ⟨m', e1, s1, g1⟩ := m_payAll h (p := p) (by omega) hday
  obtain ⟨N, hN⟩ : ∃ N : Nat, m.1 87 = N := ⟨(m.1 87).toNat, by omega⟩
  have wy : w32 y = y := w32_id (by omega) (by omega)
  have key := loop_ind (fun q (i : Nat) => m5_used_l46 p y m' q (sumD (fun c => decide (m.2 88 c = (p : Int) ∧ (y < 0 ∨ m.2 90 c / 365 = y))) (PVc m p day) i) ((i : Int) + 1)) (fun i => N - i) (fun i => i ≤ N) (fun _ r => r = sumD (fun c => decide (m.2 88 c = (p : Int) ∧ (y < 0 ∨ m.2 90 c / 365 = y))) (PVc m p day) N) (by
    intro q i hi ih
    show ok (m5_used_l46 p y m' (q + 1) (sumD (fun c => decide (m.2 88 c = (p : Int) ∧ (y < 0 ∨ m.2 90 c / 365 = y))) (PVc m p day) i) ((i : Int) + 1)) _
    unfold m5_used_l46
    rw [s1.1 87 (by simp), show w32 (m.1 87) = (N : Int) by rw [hN]; exact w32_n (by omega), w32_id (x := (i : Int) + 1) (by omega) (by omega)]
    refine ok_ite (fun hz => ok_some (by rw [show i = N by omega])) (fun hz => ?_)
    have k1 : (1 : Nat) ≤ i + 1 := by omega
    have k2 : ((i + 1 : Nat) : Int) ≤ m.1 87 := by omega
    obtain ⟨b1, -, -, b4, b5, b6, -, -, -, b10, b11, b12, -⟩ := h.2.2.2.2.2.2.2.2.2.2.1 (i + 1) k1 k2
    have ei : (i : Int) + 1 = ((i + 1 : Nat) : Int) := by omega
    rw [ei]
    refine ok_mald (i + 1) rfl (by omega) (by omega) ?_
    rw [s1.2 88 (by simp), w32_id (x := m.2 88 (i + 1)) (by omega) (by omega), w32_n (by omega), wy]
    have hrec := ih (i + 1) (by omega) (by omega)
    simp only [sumD] at hrec
    have take : m.2 88 (i + 1) = (p : Int) ∧ (y < 0 ∨ m.2 90 (i + 1) / 365 = y) → ok (m5_used_b85 (m5_used_l46 p y m' q) p y (sumD (fun c => decide (m.2 88 c = (p : Int) ∧ (y < 0 ∨ m.2 90 c / 365 = y))) (PVc m p day) i) ((i + 1 : Nat) : Int) m') (fun r => r = sumD (fun c => decide (m.2 88 c = (p : Int) ∧ (y < 0 ∨ m.2 90 c / 365 = y))) (PVc m p day) N) := by
      intro hc
      unfold m5_used_b85
      refine ok_mald (i + 1) rfl (by omega) (by omega) ?_
      rw [g1 (i + 1) k1 k2, if_pos hc.1]
      rw [if_pos (decide_eq_true hc)] at hrec
      exact hrec
    have skip : ¬ (m.2 88 (i + 1) = (p : Int) ∧ (y < 0 ∨ m.2 90 (i + 1) / 365 = y)) → ok (m5_used_l46 p y m' q (sumD (fun c => decide (m.2 88 c = (p : Int) ∧ (y < 0 ∨ m.2 90 c / 365 = y))) (PVc m p day) i) (((i + 1 : Nat) : Int) + 1)) (fun r => r = sumD (fun c => decide (m.2 88 c = (p : Int) ∧ (y < 0 ∨ m.2 90 c / 365 = y))) (PVc m p day) N) := by
      intro hc
      rw [if_neg (fun z => hc (of_decide_eq_true z)), Int.add_zero] at hrec
      exact hrec
    refine ok_ite (fun q1 => ok_ite (fun q2 => take ⟨q1, Or.inl q2⟩) (fun q2 => ok_mald (i + 1) rfl (by omega) (by omega) ?_)) (fun q1 => skip (fun z => q1 z.1))
    rw [s1.2 90 (by simp), dv365 b11 b12]
    exact ok_ite (fun q3 => take ⟨q1, Or.inr q3⟩) (fun q3 => skip (fun z => z.2.elim q2 q3))) NN 0 (Nat.zero_le _) (NN_gt (by omega))
  obtain ⟨r, e2, rfl⟩ := key
  refine ⟨m', ?_, s1⟩
  unfold m5_used usedV
  have e2 : m5_used_l46 p y m' NN 0 1 = some (sumD (fun c => decide (m.2 88 c = (p : Int) ∧ (y < 0 ∨ m.2 90 c / 365 = y))) (PVc m p day) N) := e2
  rw [m_isP h (w32_n (by omega)), Option.bind_some, w32_b2i, decide_eq_true ⟨by omega, p2⟩, if_neg (by decide), wy, if_neg (by omega), if_neg (by omega), m_isDay hday, Option.bind_some, w32_b2i, decide_eq_true hd, if_neg (by decide), e1, Option.bind_some, e2, Option.bind_some, show (m.1 87).toNat = N by omega]
theorem o_used {G : CG} {L : Ly} {u : Sg} {m : Mu} (h : RC G L u m) (p y day : Int) (hp : w32 p = p) (wy : w32 y = y) (hday : w32 day = day) : sim (f0_used G (some (L.1 3)) p y day u) (m5_used p y day m) (aft G L) := by
  by_cases q1 : (1 ≤ p ∧ p ≤ m.1 81) ∧ (-1 ≤ y ∧ y ≤ 27) ∧ 0 ≤ day ∧ day ≤ 9999
  · obtain ⟨n, rfl⟩ : ∃ n : Nat, p = n := ⟨p.toNat, by omega⟩
    obtain ⟨u', e1, s1⟩ := c_used h (p := n) (by omega) q1.1.2 q1.2.1 hday q1.2.2
    obtain ⟨m', e2, s2⟩ := m_used h (p := n) (by omega) q1.1.2 q1.2.1 hday q1.2.2
    exact ⟨_, _, e1, e2, rfl, RC_msc (RC_scp h s1) (MAp s2)⟩
  · unfold f0_used m5_used
    refine sim_L (ztg_e (rT3 h.1)) (sim_L (c_isP h hp) (sim_R (m_isP h hp) (sim_test (fun _ => sim_some ⟨rfl, h⟩) (fun k1 => ?_))))
    rw [wy]
    refine sim_ite Iff.rfl (fun _ => sim_some ⟨rfl, h⟩) (fun k2 => sim_ite Iff.rfl (fun _ => sim_some ⟨rfl, h⟩) (fun k3 => ?_))
    exact sim_L (c_isDay hday) (sim_R (m_isDay hday) (sim_test (fun _ => sim_some ⟨rfl, h⟩) (fun k4 => absurd ⟨k1, ⟨by omega, by omega⟩, k4⟩ q1)))
/-! treaties -/
def tkP (m : Mu) (l : Int) (k : Nat) : Int := if m.2 98 k = 0 then l * m.2 99 k / 1000 else min (m.2 100 k) (max 0 (l - m.2 99 k))
def tkL (m : Mu) (s : Int) : Nat → Int
  | 0 => s
  | k + 1 => tkL m s k - tkP m (tkL m s k) k
/-- what a treaty takes; with -1 what is left -/
def tkV (m : Mu) (s t : Int) : Int := if t = -1 then tkL m s (m.1 97).toNat else tkP m (tkL m s t.toNat) t.toNat
theorem tkP_bd {G : CG} {L : Ly} {u : Sg} {m : Mu} (h : RC G L u m) {k : Nat} (hk : (k : Int) < m.1 97) {l : Int} (hl : 0 ≤ l ∧ l ≤ 99999999) : 0 ≤ tkP m l k ∧ tkP m l k ≤ l := by
  obtain ⟨-, -, -, q4, q5, q6, q7⟩ := h.2.2.1.2.1 k hk
  unfold tkP
  by_cases hz : m.2 98 k = 0
  · rw [if_pos hz] at q6 ⊢
    constructor
    · exact Int.ediv_nonneg (Int.mul_nonneg hl.1 q5) (by omega)
    · have : l * m.2 99 k ≤ l * 1000 := Int.mul_le_mul_of_nonneg_left q6 hl.1
      omega
  · rw [if_neg hz]
    have := q7 (by omega)
    omega
theorem tkL_bd {G : CG} {L : Ly} {u : Sg} {m : Mu} (h : RC G L u m) {s : Int} (hs : 0 ≤ s ∧ s ≤ 99999999) : ∀ k : Nat, (k : Int) ≤ m.1 97 → 0 ≤ tkL m s k ∧ tkL m s k ≤ s := by
  intro k
  induction k with
  | zero => intro _; exact ⟨hs.1, Int.le_refl _⟩
  | succ k ih =>
    intro hk
    have i := ih (by omega)
    have := tkP_bd h (k := k) (by omega) (l := tkL m s k) ⟨i.1, by omega⟩
    simp only [tkL]
    omega
theorem d1000 {x : Int} (h : 0 ≤ x) (h2 : x < 9223372036854775808) : div64 x 1000 = x / 1000 := by
  unfold div64
  rw [w64_id (by omega) (by omega), w64_id (x := 1000) (by omega) (by omega), Int.tdiv_eq_ediv_of_nonneg h]
theorem c_taken {G : CG} {L : Ly} {u : Sg} {m : Mu} (h : RC G L u m) {s t : Int} (hs : 0 ≤ s ∧ s ≤ 99999999) (ht : -1 ≤ t ∧ t < m.1 97) : f0_taken G (some (L.1 3)) s t u = some (tkV m s t) := by
  have hR := h.1
  obtain ⟨-, -, -, -, s5, s6, s7, -⟩ := h.2.1
  obtain ⟨N, hN⟩ : ∃ N : Nat, m.1 97 = N := ⟨(m.1 97).toNat, by omega⟩
  have l9 := rL109 hR
  have l10 := rL110 hR
  have l11 := rL111 hR
  have wt : w32 t = t := w32_id (by omega) (by omega)
  have key := loop_ind (fun q (i : Nat) => f0_taken_l5 G (some (L.1 3)) t u q (tkL m s i) (i : Int)) (fun i => N - i) (fun i => i ≤ N ∧ (t = -1 ∨ (i : Int) ≤ t)) (fun _ r => Sum.elim (fun x => x = tkV m s t) (fun x => x = tkV m s t) r) (by
    intro q i hi ih
    show ok (f0_taken_l5 G (some (L.1 3)) t u (q + 1) (tkL m s i) (i : Int)) _
    unfold f0_taken_l5
    refine ok_eq (gfI_v (rT3 hR) s5) ?_
    rw [show w32 (m.1 97) = (N : Int) by rw [hN]; exact w32_n (by omega), w32_n (by omega)]
    refine ok_ite (fun hz => ok_some ?_) (fun hz => ?_)
    · have : t = -1 := by omega
      show tkL m s i = tkV m s t
      unfold tkV
      rw [if_pos this, show (m.1 97).toNat = i by omega]
    have lb := tkL_bd h hs i (by omega)
    obtain ⟨a1, a2, a3, a4, a5, a6, a7⟩ := h.2.2.1.2.1 i (by omega)
    have pb := tkP_bd h (k := i) (by omega) (l := tkL m s i) ⟨lb.1, by omega⟩
    have fin : ∀ x, x = tkP m (tkL m s i) i → ok (f0_taken_b66 G (f0_taken_l5 G (some (L.1 3)) t u q) (some (L.1 3)) t (tkL m s i) (i : Int) x u) (fun r => Sum.elim (fun x => x = tkV m s t) (fun x => x = tkV m s t) r) := by
      intro x hx
      unfold f0_taken_b66
      rw [w32_n (by omega), wt]
      refine ok_ite (fun q1 => ok_some ?_) (fun q1 => ?_)
      · show x = tkV m s t
        unfold tkV
        rw [if_neg (by omega), show t.toNat = i by omega, hx]
      · have := ih (i + 1) ⟨by omega, by omega⟩ (by omega)
        simp only [tkL] at this
        rw [hx]
        exact this
    refine ok_eq (gfR_v (rT3 hR) (rR3_9 hR)) (ok_eq (alI_e i (rT109 hR) rfl (by omega) (by omega)) ?_)
    rw [a1, w32_id (x := m.2 98 i) (by omega) (by omega)]
    refine ok_ite (fun q1 => ?_) (fun q1 => ?_)
    · refine ok_eq (gfR_v (rT3 hR) (rR3_10 hR)) (ok_eq (alI_e i (rT110 hR) rfl (by omega) (by omega)) (fin _ ?_))
      rw [if_pos q1] at a6
      rw [a2, w32_id (x := tkL m s i) (by omega) (by omega), w32_id (x := m.2 99 i) (by omega) (by omega)]
      unfold tkP
      rw [if_pos q1]
      have p1 : tkL m s i * m.2 99 i ≤ tkL m s i * 1000 := Int.mul_le_mul_of_nonneg_left a6 lb.1
      exact d1000 (Int.mul_nonneg lb.1 a5) (by omega)
    · rw [if_neg q1] at a6
      have := a7 (by omega)
      refine ok_eq (gfR_v (rT3 hR) (rR3_11 hR)) (ok_eq (alI_e i (rT111 hR) rfl (by omega) (by omega)) (ok_eq (gfR_v (rT3 hR) (rR3_10 hR)) (ok_eq (alI_e i (rT110 hR) rfl (by omega) (by omega)) (fin _ ?_))))
      rw [a2, a3]
      unfold tkP mn32 mx32
      rw [if_neg q1, w32_id (x := 0) (by omega) (by omega), w32_id (x := tkL m s i - m.2 99 i) (by omega) (by omega)]
      split
      · rw [w32_id (x := m.2 100 i) (by omega) (by omega), w32_id (x := tkL m s i - m.2 99 i) (by omega) (by omega)]
        split
        · rw [w32_id (by omega) (by omega)]; omega
        · rw [w32_id (by omega) (by omega)]; omega
      · rw [w32_id (x := m.2 100 i) (by omega) (by omega), w32_id (x := 0) (by omega) (by omega)]
        split
        · rw [w32_id (by omega) (by omega)]; omega
        · rw [w32_id (by omega) (by omega)]; omega) NN 0 ⟨Nat.zero_le _, by omega⟩ (NN_gt (by omega))
  obtain ⟨r, e, k⟩ := key
  have e : f0_taken_l5 G (some (L.1 3)) t u NN s 0 = some r := e
  unfold f0_taken
  rw [e, Option.bind_some]
  cases r with
  | inl x => exact congrArg some k
  | inr x => exact congrArg some k
theorem m_takes {G : CG} {L : Ly} {u : Sg} {m : Mu} (h : RC G L u m) {s t : Int} (hs : 0 ≤ s ∧ s ≤ 99999999) (ht : -1 ≤ t ∧ t < m.1 97) : m5_takes s t m = some (tkV m s t) := by
  obtain ⟨-, -, -, -, s5, s6, s7, -⟩ := h.2.1
  obtain ⟨N, hN⟩ : ∃ N : Nat, m.1 97 = N := ⟨(m.1 97).toNat, by omega⟩
  have wt : w32 t = t := w32_id (by omega) (by omega)
  have key := loop_ind (fun q (i : Nat) => m5_takes_l6 t m q (tkL m s i) (i : Int)) (fun i => N - i) (fun i => i ≤ N ∧ (t = -1 ∨ (i : Int) ≤ t)) (fun _ r => Sum.elim (fun x => x = tkV m s t) (fun x => x = tkV m s t) r) (by
    intro q i hi ih
    show ok (m5_takes_l6 t m (q + 1) (tkL m s i) (i : Int)) _
    unfold m5_takes_l6
    rw [show w32 (m.1 97) = (N : Int) by rw [hN]; exact w32_n (by omega), w32_n (by omega)]
    refine ok_ite (fun hz => ok_some ?_) (fun hz => ?_)
    · have : t = -1 := by omega
      show tkL m s i = tkV m s t
      unfold tkV
      rw [if_pos this, show (m.1 97).toNat = i by omega]
    have lb := tkL_bd h hs i (by omega)
    obtain ⟨a1, a2, a3, a4, a5, a6, a7⟩ := h.2.2.1.2.1 i (by omega)
    have fin : ∀ x, x = tkP m (tkL m s i) i → ok (m5_takes_b83 (m5_takes_l6 t m q) t (tkL m s i) (i : Int) x m) (fun r => Sum.elim (fun x => x = tkV m s t) (fun x => x = tkV m s t) r) := by
      intro x hx
      unfold m5_takes_b83
      rw [w32_n (by omega), wt]
      refine ok_ite (fun q1 => ok_some ?_) (fun q1 => ?_)
      · show x = tkV m s t
        unfold tkV
        rw [if_neg (by omega), show t.toNat = i by omega, hx]
      · have := ih (i + 1) ⟨by omega, by omega⟩ (by omega)
        simp only [tkL] at this
        rw [hx]
        exact this
    refine ok_mald i rfl (by omega) (by omega) ?_
    rw [w32_id (x := m.2 98 i) (by omega) (by omega)]
    refine ok_ite (fun q1 => ?_) (fun q1 => ?_)
    · refine ok_mald i rfl (by omega) (by omega) (fin _ ?_)
      rw [if_pos q1] at a6
      rw [w32_id (x := m.2 99 i) (by omega) (by omega)]
      unfold tkP
      rw [if_pos q1]
      have p1 : tkL m s i * m.2 99 i ≤ tkL m s i * 1000 := Int.mul_le_mul_of_nonneg_left a6 lb.1
      exact d1000 (Int.mul_nonneg lb.1 a5) (by omega)
    · rw [if_neg q1] at a6
      have := a7 (by omega)
      refine ok_mald i rfl (by omega) (by omega) ?_
      rw [w32_id (x := m.2 99 i) (by omega) (by omega), w64_id (x := tkL m s i) (by omega) (by omega), w64_id (x := m.2 99 i) (by omega) (by omega)]
      have fin2 : ∀ y, 0 ≤ y → y ≤ 99999999 → y = max 0 (tkL m s i - m.2 99 i) → ok (m5_takes_b72 (m5_takes_l6 t m q) t (tkL m s i) (i : Int) y m) (fun r => Sum.elim (fun x => x = tkV m s t) (fun x => x = tkV m s t) r) := by
        intro y y0 y1 hy
        unfold m5_takes_b72 m5_lesser
        refine ok_mald i rfl (by omega) (by omega) ?_
        rw [w32_id (x := m.2 100 i) (by omega) (by omega), w64_id (x := m.2 100 i) (by omega) (by omega), w64_id (x := y) (by omega) (by omega)]
        by_cases q3 : m.2 100 i ≤ y
        · rw [if_pos q3, Option.bind_some]
          refine fin _ ?_
          unfold tkP; rw [if_neg q1]; omega
        · rw [if_neg q3, Option.bind_some]
          refine fin _ ?_
          unfold tkP; rw [if_neg q1]; omega
      refine ok_ite (fun q2 => fin2 0 (by omega) (by omega) (by omega)) (fun q2 => ok_mald i rfl (by omega) (by omega) ?_)
      rw [w32_id (x := m.2 99 i) (by omega) (by omega)]
      exact fin2 _ (by omega) (by omega) (by omega)) NN 0 ⟨Nat.zero_le _, by omega⟩ (NN_gt (by omega))
  obtain ⟨r, e, k⟩ := key
  have e : m5_takes_l6 t m NN s 0 = some r := e
  unfold m5_takes
  rw [e, Option.bind_some]
  cases r with
  | inl x => exact congrArg some k
  | inr x => exact congrArg some k
theorem tkV_cg {m m' : Mu} (h1 : m'.1 97 = m.1 97) (h2 : ∀ k, k = 98 ∨ k = 99 ∨ k = 100 → m'.2 k = m.2 k) (s t : Int) : tkV m' s t = tkV m s t := by
  have hP : ∀ l k, tkP m' l k = tkP m l k := fun l k => by unfold tkP; rw [h2 98 (by simp), h2 99 (by simp), h2 100 (by simp)]
  have hL : ∀ k, tkL m' s k = tkL m s k := by
    intro k
    induction k with
    | zero => rfl
    | succ k ih => simp only [tkL]; rw [ih, hP]
  unfold tkV
  rw [h1, hL, hL, hP]
theorem o_ceded {G : CG} {L : Ly} {u : Sg} {m : Mu} (h : RC G L u m) (c t day : Int) (hc : w32 c = c) (wt : w32 t = t) (hday : w32 day = day) : sim (f0_ceded G (some (L.1 3)) c t day u) (m5_ceded c t day m) (aft G L) := by
  obtain ⟨-, -, -, -, s5, s6, s7, -⟩ := id h.2.1
  unfold f0_ceded m5_ceded
  refine sim_L (ztg_e (rT3 h.1)) (sim_L (c_isK h hc) (sim_R (m_isK h hc) (sim_test (fun _ => sim_some ⟨rfl, h⟩) (fun k1 => ?_))))
  rw [wt]
  refine sim_ite Iff.rfl (fun _ => sim_some ⟨rfl, h⟩) (fun k2 => sim_L (gfI_v (rT3 h.1) s5) ?_)
  rw [w32_id (x := m.1 97) (by omega) (by omega)]
  refine sim_ite Iff.rfl (fun k3 => ?_) (fun _ => sim_some ⟨rfl, h⟩)
  refine sim_L (ztg_e (rT3 h.1)) (sim_R (m_isDay hday) ?_)
  rw [w32_b2i]
  by_cases q2 : 0 ≤ day ∧ day ≤ 9999
  · obtain ⟨n, rfl⟩ : ∃ n : Nat, c = n := ⟨c.toNat, by omega⟩
    obtain ⟨-, -, -, -, b5, -⟩ := h.2.2.2.2.2.2.2.2.2.2.1 n (by omega) k1.2
    obtain ⟨p, hp⟩ : ∃ p : Nat, m.2 88 n = p := ⟨(m.2 88 n).toNat, by omega⟩
    obtain ⟨u', e1, f1⟩ := c_pay h (c := n) (by omega) k1.2 hp hday q2
    obtain ⟨m', e2, f2⟩ := m_pay h (c := n) (by omega) k1.2 hp hday q2
    have h' := RC_msc (RC_scp h f1) (MAp f2)
    have pb := PVc_bd h (p := p) hday n
    rw [decide_eq_true q2]
    refine sim_negR (by decide) (sim_L e1 (sim_R e2 ?_))
    dsimp only
    rw [w32_id (x := PVc m p day n) (by omega) (by omega)]
    refine sim_posL pb.1 (sim_L (ztg_e (rT3 h'.1)) (sim_L (c_taken (RC_scp h f1) pb ⟨by omega, k3⟩) (sim_R (m_takes h' pb (t := t) ⟨by omega, by rw [f2.1 97 (by simp)]; exact k3⟩) (sim_some ⟨?_, h'⟩))))
    show tkV m _ t = tkV m' _ t
    rw [tkV_cg (f2.1 97 (by simp)) (fun k hk => f2.2 k (by simp; omega))]
  · have e1 : f0_pay G (some (L.1 3)) c day u = some (-2, u) := by
      unfold f0_pay
      rw [ztg_e (rT3 h.1), Option.bind_some, c_isK h hc, Option.bind_some, w32_b2i, decide_eq_true k1, if_neg (by decide), c_isDay hday, Option.bind_some, w32_b2i, decide_eq_false q2, if_pos (by decide)]
    rw [decide_eq_false q2]
    exact sim_posR (by decide) (sim_L e1 (sim_negL (show ¬ (0 : Int) ≤ w32 (-2) by decide) (sim_some ⟨rfl, h⟩)))

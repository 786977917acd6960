/-! THE CALL decider -/
/-- an event's told values as both sides have them -/
theorem ev_told {G : CG} {L : Ly} {u : Sg} {m : Mu} (h : RC G L u m) {e w : Nat} (h1 : 1 ≤ e) (h2 : (e : Int) ≤ m.1 71) (hw : m.2 72 e = (w : Int)) (day : Int) : (∀ f, f < nF (slc m w) → vvE m e day f = -1 ∨ (slc m w 17 f ≤ vvE m e day f ∧ vvE m e day f ≤ slc m w 18 f)) ∧ (∀ f, f < nF (slc m w) → 0 ≤ m.2 75 (8 * e + f) ∧ m.2 75 (8 * e + f) ≤ 6 ∧ ∀ k : Nat, (k : Int) < m.2 75 (8 * e + f) → 0 ≤ m.2 74 (6 * (8 * e + f) + k) ∧ m.2 74 (6 * (8 * e + f) + k) ≤ 9999) := by
  obtain ⟨w', w1, w2, w12, w3, hEE, hM, hA, w4, w5⟩ := ev_at h h1 h2
  have : w' = w := by omega
  subst this
  have hwn : (m.2 72 e).toNat = w' := by omega
  refine ⟨fun f hf => ?_, fun f hf => ?_⟩
  · have := vvE_bd hEE day (f := f) (by rw [hwn]; exact hf)
    rw [hwn] at this
    exact this
  · obtain ⟨-, -, -, -, -, l, -, -, b8⟩ := hEE
    rw [hwn] at b8
    obtain ⟨k1, k2⟩ := b8 f hf
    exact ⟨k1.2.2.2.2.1, k1.2.2.2.2.2.1, fun k hk => (k2 k hk).2⟩
theorem m_decider_l {m : Mu} {w e : Nat} {W : Wv} {day : Int} (hw : slc m w = W) (hw12 : w ≤ 13) (he : e ≤ 32) (hM : WM W) (hday : w32 day = day) (hn : ∀ f, f < nF W → 0 ≤ m.2 75 (8 * e + f) ∧ m.2 75 (8 * e + f) ≤ 6 ∧ ∀ k : Nat, (k : Int) < m.2 75 (8 * e + f) → 0 ≤ m.2 74 (6 * (8 * e + f) + k) ∧ m.2 74 (6 * (8 * e + f) + k) ≤ 9999) (hv : ∀ f, f < nF W → vvE m e day f = -1 ∨ (W 17 f ≤ vvE m e day f ∧ vvE m e day f ≤ W 18 f)) : ∃ m', mfr [] [59] m m' ∧ ((m5_decider_l26 e day w NN 0 m = some (.inr m') ∧ ∀ f, f < nF W → 0 ≤ vvE m e day f ∧ m'.2 59 f = vvE m e day f) ∨ (m5_decider_l26 e day w NN 0 m = some (.inl m') ∧ ∃ f, f < nF W ∧ vvE m e day f = -1)) := by
  obtain ⟨f0, f8⟩ := nF_e hM
  have key := loop_ind (fun q (s : Nat × Mu) => m5_decider_l26 e day w q (s.1 : Int) s.2) (fun s => nF W - s.1) (fun s => s.1 ≤ nF W ∧ mfr [] [59] m s.2 ∧ ∀ f, f < s.1 → 0 ≤ vvE m e day f ∧ s.2.2 59 f = vvE m e day f) (fun _ r => ∃ m', mfr [] [59] m m' ∧ ((r = .inr m' ∧ ∀ f, f < nF W → 0 ≤ vvE m e day f ∧ m'.2 59 f = vvE m e day f) ∨ (r = .inl m' ∧ ∃ f, f < nF W ∧ vvE m e day f = -1))) (by
    rintro q ⟨i, s⟩ ⟨h1, h2, h3⟩ ih
    simp only at h1 h2 h3
    show ok (m5_decider_l26 e day w (q + 1) (i : Int) s) _
    unfold m5_decider_l26
    have hs : slc s w = W := by rw [← hw]; exact slc_of (fun j q1 q2 => h2.2 j (by simp; omega))
    refine ok_eq (m_sl (w := w) (k := 12) (j := 0) (by decide) (by show (w : Int) = ((1 * w + 0 : Nat) : Int); omega) (by show 1 * w + 0 < 14; omega) (by omega)) ?_
    rw [hs, f0, w32_n (by omega), w32_n (by omega)]
    refine ok_ite (fun hc => ok_some ⟨s, h2, Or.inl ⟨rfl, ?_⟩⟩) (fun hc => ?_)
    · have : i = nF W := by omega
      subst this
      exact h3
    · have hi : i < nF W := by omega
      have e73 : s.2 73 = m.2 73 := h2.2 73 (by decide)
      have e74 : s.2 74 = m.2 74 := h2.2 74 (by decide)
      have e75 : s.2 75 = m.2 75 := h2.2 75 (by decide)
      have hfa : m5_factAt e i day s = some (vvE m e day i) := by
        rw [m_factAt he (by omega) (by rw [e75]; exact ⟨(hn i hi).1, (hn i hi).2.1⟩) (by rw [e75, e74]; exact (hn i hi).2.2) hday, e75, e74, e73]
        rfl
      have hb := lo_bd hM hi
      have hvi := hv i hi
      refine ok_eq hfa (ok_mast i rfl (by omega) (by omega) (ok_mald i rfl (by omega) (by omega) ?_))
      rw [ma_s, if_pos rfl, w32_id (x := vvE m e day i) (by omega) (by omega)]
      refine ok_ite (fun h0 => ?_) (fun h0 => ok_some ⟨_, mfr_ma h2 (by decide), Or.inr ⟨rfl, i, hi, by omega⟩⟩)
      refine ih (i + 1, ma s 59 i _) ⟨by show i + 1 ≤ nF W; omega, mfr_ma h2 (by decide), fun f hf => ?_⟩ (by show nF W - (i + 1) < nF W - i; omega)
      show 0 ≤ vvE m e day f ∧ (ma s 59 i (vvE m e day i)).2 59 f = _
      rw [ma_s]
      by_cases hfi : f = i
      · rw [if_pos hfi, hfi]; exact ⟨h0, rfl⟩
      · rw [if_neg hfi]; exact h3 f (by have hf : f < i + 1 := hf; omega)) NN (0, m) ⟨Nat.zero_le _, mfr_rf, fun f hf => absurd hf (Nat.not_lt_zero _)⟩ (NN_gt (by show nF W - 0 < 100000; omega))
  obtain ⟨r, e1, m', h1, h2⟩ := key
  have e1' : m5_decider_l26 e day w NN 0 m = some r := e1
  refine ⟨m', h1, ?_⟩
  rcases h2 with ⟨rfl, h2⟩ | ⟨rfl, h2⟩
  · exact Or.inl ⟨e1', h2⟩
  · exact Or.inr ⟨e1', h2⟩
/-- the class's sum over the told cells -/
theorem c_sum {G : CG} {L : Ly} {u : Sg} {m : Mu} (h : RC G L u m) {W : Wv} {wa : Nat} {dg : Nat → Int} {K : Nat} (hM : WM W) (hA : WA G L u wa W) (hS : WS L u W wa dg K) (hd : ∀ f, f < nF W → 0 ≤ dg f ∧ dg f < nS W f) : f0_decider_l55 G (some (L.1 3)) (some wa) u NN 0 0 = some ((hor W (fun f => (dg f).toNat) (nF W) : Nat) : Int) := by
  have hR := h.1
  obtain ⟨f0, f8⟩ := nF_e hM
  obtain ⟨w1, w2, w3, w4, w5⟩ := hS
  obtain ⟨⟨a1, a2⟩, ⟨l1, e9, b1, b2, -⟩, -⟩ := hA
  generalize hd' : (fun f => (dg f).toNat) = d at *
  have key := loop_ind (fun q (i : Nat) => f0_decider_l55 G (some (L.1 3)) (some wa) u q ((hor W d i * ug W i : Nat) : Int) (i : Int)) (fun i => nF W - i) (fun i => i ≤ nF W) (fun _ x => x = ((hor W d (nF W) : Nat) : Int)) (by
    rintro q i hi ih
    show ok (f0_decider_l55 G (some (L.1 3)) (some wa) u (q + 1) ((hor W d i * ug W i : Nat) : Int) (i : Int)) _
    unfold f0_decider_l55
    refine ok_eq (gfR_v a2 b1) (ok_eq (ztg_e (lf_tag b2)) (ok_eq (lf_size b2) ?_))
    rw [w32_n (by omega), w32_n (by omega)]
    refine ok_ite (fun hc => ok_some ?_) (fun hc => ?_)
    · have : i = nF W := by omega
      subst this
      rw [ug_F, Nat.mul_one]
    · have hif : i < nF W := by omega
      obtain ⟨z1, z2⟩ := w5 i hif
      obtain ⟨d1, d2⟩ := hd i hif
      have hdi : dg i = (d i : Int) := by rw [← hd']; show dg i = ((dg i).toNat : Int); omega
      refine ok_eq (gfR_v (rT3 hR) (rR3_14 hR)) (ok_eq (gfR_v (rT114 hR) (rR114_81 hR)) (ok_eq (alI_e i (rT142 hR) rfl (by rw [rL142 hR]; omega) (by rw [rL142 hR]; omega)) ?_))
      refine ok_eq (gfR_v (rT3 hR) (rR3_14 hR)) (ok_eq (gfR_v (rT114 hR) (rR114_83 hR)) (ok_eq (alI_e i (rT143 hR) rfl (by rw [rL143 hR]; omega) (by rw [rL143 hR]; omega)) ?_))
      rw [z1, z2, hdi]
      have e : ((hor W d i * ug W i : Nat) : Int) + (d i : Int) * ((ug W (i + 1) : Nat) : Int) = ((hor W d (i + 1) * ug W (i + 1) : Nat) : Int) := by
        rw [ug_S hif]
        simp only [hor]
        rw [Nat.add_mul, Nat.mul_assoc, Int.natCast_add, Int.natCast_mul (d i)]
      rw [e]
      exact ih (i + 1) (by omega) (by omega)) NN 0 (Nat.zero_le _) (NN_gt (by omega))
  obtain ⟨x, ex, rfl⟩ := key
  have ex' : f0_decider_l55 G (some (L.1 3)) (some wa) u NN ((hor W d 0 * ug W 0 : Nat) : Int) 0 = _ := ex
  rw [show hor W d 0 * ug W 0 = 0 from Nat.zero_mul _] at ex'
  exact ex'
theorem o_decider {G : CG} {L : Ly} {u : Sg} {m : Mu} (h : RC G L u m) (e k : Int) (he : w32 e = e) (hk : w32 k = k) : sim (f0_decider G (some (L.1 3)) e k u) (m5_decider e k m) (aft G L) := by
  unfold f0_decider m5_decider
  refine sim_L (ztg_e (rT3 h.1)) ?_
  by_cases hg : (1 ≤ e ∧ e ≤ m.1 71) ∧ 0 ≤ k ∧ k ≤ 9999
  · obtain ⟨n, rfl⟩ : ∃ n : Nat, e = n := ⟨e.toNat, by omega⟩
    obtain ⟨w, K, u', m', w1, w12, w2, w3, hM, e1, s1, hA', hS', e2, f1, f2, f3⟩ := look_ok h (e := n) (day := k) (by omega) (by omega) hk hg.2
    have n32 := h.2.2.2.2.2.1.2.1
    obtain ⟨hvv, hvn⟩ := ev_told h (e := n) (w := w) (by omega) (by omega) w3 k
    refine sim_L e1 (sim_posL (show 0 ≤ w32 0 by decide) (sim_R (noEvent_ok h he hk hg.1 hg.2) (sim_posR (by decide) ?_)))
    refine sim_mald n rfl (by omega) (by omega) ?_
    rw [w3]
    have h' := RC_scr h s1
    have hR' := h'.1
    generalize hW : slc m w = W at *
    generalize hdg : dgt W (vvE m n k) = dg at *
    have hd2 : ∀ f, f < nF W → -1 ≤ dg f ∧ dg f < nS W f := fun f hf => by rw [← hdg]; exact dgt_bd hM _ hf
    have f8 := (nF_e hM).2
    have h28 := p28 f8
    have hS : ∀ f, f < nF W → 1 ≤ nS W f := fun f hf => (nS_e hM hf).2.1
    obtain ⟨⟨a1, a2⟩, ⟨l1, e9, b1, b2, -⟩, -, -, -, -, -, -, -, ⟨x, y, x1, x2, x3, x4, x5⟩⟩ := id hA'
    have e10 : (shl32 1 ((nF W : Nat) : Int) - 1) = (((2 ^ nF W : Nat) : Int) - 1) := by rw [shl32_1 (nF W) (by omega)]
    refine sim_L (gfR_v (rT3 hR') (rR3_14 hR')) (sim_L (gfR_v (rT114 hR') hS'.1) (sim_L (gfR_v (rT3 hR') (rR3_14 hR')) (sim_L (gfI_v (rT114 hR') hS'.2.1) (sim_L (gfR_v a2 b1) (sim_L (ztg_e (lf_tag b2)) (sim_L (lf_size b2) ?_))))))
    have p1 : 1 ≤ 2 ^ nF W := Nat.one_le_two_pow
    have e11 : (((2 ^ nF W : Nat) : Int) - 1) = ((2 ^ nF W - 1 : Nat) : Int) := by omega
    have hK8 := hS'.2.2.1
    rw [e10, e11, w32_n (by omega), w32_n (by omega)]
    obtain ⟨m2, f4, hm2⟩ := m_decider_l (m := m) (w := w) (e := n) (W := W) (day := k) hW (by omega) (by omega) hM hk hvn hvv
    have fr4 : ∀ {m3 : Mu}, mfr [62] [60, 61] m2 m3 → mfr MS0 MA0 m m3 := fun hh => mfr_tr (mfr_up f4 (by simp) (by decide)) (mfr_up hh (by decide) (by decide))
    rcases hm2 with ⟨em, all⟩ | ⟨em, f, hf, hvf⟩
    · have hKe : K = 2 ^ nF W - 1 := by
        apply Nat.eq_of_testBit_eq
        intro i
        rw [hS'.2.2.2.1 i, Nat.testBit_two_pow_sub_one]
        refine decide_eq_decide.mpr ⟨fun z => z.1, fun z => ⟨z, ?_⟩⟩
        rw [← hdg]; unfold dgt; rw [if_pos (all i z).1]; omega
      refine sim_posL (by omega) ?_
      have hd3 : ∀ f, f < nF W → 0 ≤ dg f ∧ dg f < nS W f := fun f hf => ⟨by rw [← hdg]; unfold dgt; rw [if_pos (all f hf).1]; omega, (hd2 f hf).2⟩
      generalize hc : hor W (fun f => (dg f).toNat) (nF W) = c
      have hdl : ∀ f, f < nF W → (fun f => (dg f).toNat) f < nS W f := fun f hf => by
        have := hd3 f hf
        show (dg f).toNat < nS W f
        omega
      have hcl : c < ug W 0 := by rw [← hc]; exact hor_lt hdl
      have hdc : ∀ f, f < nF W → dig W c f = cel W f (vvE m n k f) := fun f hf => by
        rw [← hc, hor_dig hdl hf]
        show (dg f).toNat = _
        rw [← hdg]; unfold dgt; rw [if_pos (all f hf).1]; omega
      have esum := c_sum h' hM hA' hS' hd3
      rw [hc] at esum
      have hT := ug_T hM (f := 0) (Nat.zero_le _)
      refine sim_L esum (sim_L (gfR_v a2 x2) (sim_L (alI_e c x4.2.1 rfl (by rw [x4.2.2, ← ug_0]; exact hcl) (by rw [x4.2.2, ← ug_0]; omega)) ?_))
      have sl2 : slc m2 w = W := by rw [← hW]; exact slc_of (fun j q1 q2 => f4.2 j (by simp; omega))
      have nfe := (nF_e hM).1
      obtain ⟨m3, e5, f5, f6⟩ := m_answers (m := m2) (w := w) (W := W) sl2 (by omega) hM (fun f hf => by
        have hf : f < nF W := by omega
        rw [(all f hf).2]
        have := hvv f hf
        have := lo_bd hM hf
        exact w32_id (by omega) (by omega))
      refine sim_R em (sim_R e5 ?_)
      refine sim_some ⟨?_, RC_msc h' (fr4 f5)⟩
      show zA u' y c = m3.1 62
      rw [f6, (x5 c (by rw [← ug_0]; exact hcl)).2]
      have hin : inC W (m2.2 59) c := inC_of hM (fun f hf => by
        rw [(all f hf).2]
        have := hvv f hf
        have := (all f hf).1
        omega) (fun f hf => by rw [(all f hf).2]; exact hdc f hf)
      unfold decO
      rw [clF_cell hM hin _ (Nat.le_refl _)]
    · have hKn : K ≠ 2 ^ nF W - 1 := by
        intro hK
        have q1 := hS'.2.2.2.1 f
        rw [hK, Nat.testBit_two_pow_sub_one, ← hdg] at q1
        unfold dgt at q1
        rw [hvf] at q1
        simp [hf] at q1
      refine sim_negL (by omega) (sim_R em (sim_some ⟨rfl, RC_msc h' (mfr_up f4 (by simp) (by decide))⟩))
  · obtain ⟨x, hx, e1, e2⟩ := look_bad h he hk hg
    refine sim_L e1 (sim_R e2 (sim_negL (by show ¬ 0 ≤ w32 x; rcases hx with rfl | rfl <;> decide) (sim_negR (by rcases hx with rfl | rfl <;> decide) (sim_R e2 (sim_some ⟨rfl, h⟩)))))

/-! THE CALL change -/
theorem change65 {G : CG} {L : Ly} {u : Sg} {m : Mu} (h : RC G L u m) {p : Nat} {w v f k : Int} (hp : 1 ≤ p) (hp2 : (p : Int) ≤ m.1 81) (hw : 0 ≤ w ∧ w ≤ 2) (hv : 0 ≤ v ∧ v ≤ 99999999) (hv0 : w = 0 → v ≤ m.1 11) (hv2 : w = 2 → v ≤ 1) (hf : w32 f = f) (hk : w32 k = k) : sim (f0_change_b65 G (some (L.1 3)) p w v f k u) (m5_change_b65 p w v f k m) (aft G L) := by
  have h0 := h
  obtain ⟨hR, hS, hA, hJ, hW, hE, hP, hK⟩ := h
  unfold f0_change_b65 m5_change_b65
  refine sim_L (c_isDay hf) (sim_R (m_isDay hf) (sim_test (fun _ => sim_some ⟨rfl, h0⟩) (fun d1 => ?_)))
  refine sim_L (c_isDay hk) (sim_R (m_isDay hk) (sim_test (fun _ => sim_some ⟨rfl, h0⟩) (fun d2 => ?_)))
  have hq := hP.2.2.2 p hp hp2
  have hp12 := hP.2.1
  obtain ⟨b1, b2, b3, b4, b5, b6, b7, b8⟩ := hq
  refine sim_L (gfR_v (rT3 hR) (rR3_7 hR)) (sim_L (ztg_e hP.2.2.1.1.1) (sim_L (pol_get h0 hp hp2) (sim_L (zcast_1 b1) (sim_L (gfI_v b1 b4) (sim_mald p rfl (by omega) (by omega) (sim_ite Iff.rfl (fun _ => sim_some ⟨rfl, h0⟩) (fun hc => ?_)))))))
  rw [w32_id (by omega) (by omega)] at hc
  obtain ⟨n, hn⟩ : ∃ n : Nat, m.2 82 p = n := ⟨(m.2 82 p).toNat, by omega⟩
  have b4' : zI u (L.1 (5000 + 8 * p)) 804 = (n : Int) := by omega
  obtain ⟨c1, c2, c3, c4, c5⟩ := b7 0 (by omega)
  obtain ⟨d1, d2, d3, d4, d5⟩ := b7 1 (by omega)
  obtain ⟨e1, e2, e3, e4, e5⟩ := b7 2 (by omega)
  obtain ⟨g1, g2, g3, g4, g5⟩ := b7 3 (by omega)
  simp only [Nat.add_zero] at c1 c2 c3 c4 c5
  have iv : ((24 * (p : Int)) + m.2 82 p) = ((24 * p + n : Nat) : Int) := by omega
  refine sim_L (gfR_v b1 c1) (sim_L (gfI_v b1 b4') (sim_L (asI_e n c2 c4 rfl (by omega) (by omega)) ?_))
  refine sim_L (gfR_v b1 d1) (sim_L (gfI_v b1 b4') (sim_L (asI_e n d2 d4 rfl (by show n < zL u _; omega) (by show zL u _ ≤ _; omega)) ?_))
  refine sim_L (gfR_v b1 e1) (sim_L (gfI_v b1 b4') (sim_L (asI_e n e2 e4 rfl (by show n < zL u _; omega) (by show zL u _ ≤ _; omega)) ?_))
  refine sim_L (gfR_v b1 g1) (sim_L (gfI_v b1 b4') (sim_L (pfI_e b1 b2) (sim_L (asI_e n g2 g4 rfl (by show n < zL u _; omega) (by show zL u _ ≤ _; omega)) ?_)))
  refine sim_L (gfI_e b1) (sim_mald p rfl (by omega) (by omega) ?_)
  refine sim_mast (24 * p + n) iv (by omega) (by omega) (sim_mast (24 * p + n) iv (by omega) (by omega) (sim_mast (24 * p + n) iv (by omega) (by omega) (sim_mast (24 * p + n) iv (by omega) (by omega) (sim_mald p rfl (by omega) (by omega) (sim_mast p rfl (by omega) (by omega) (sim_mald p rfl (by omega) (by omega) (sim_some ⟨?_, ?_⟩)))))))
  · simp [zsA_I, zsI_I, ma_2, va_up_e]
    omega
  · -- the new states
    generalize hu' : zsA (zsI (zsA (zsA (zsA u (L.1 (5001 + 8 * p)) n w) (L.1 (5001 + 8 * p + 1)) n v) (L.1 (5001 + 8 * p + 2)) n f) (L.1 (5000 + 8 * p)) 804 ((n : Int) + 1)) (L.1 (5001 + 8 * p + 3)) n k = u'
    have hwr : wr L u u' (fun r => 5000 + 8 * p ≤ r ∧ r < 5008 + 8 * p) := by
      rw [← hu']
      exact wr_A (wr_I (wr_A (wr_A (wr_A wr_rf (by rw [c5]; omega)) (by rw [d5]; omega)) (by rw [e5]; omega)) (by rw [b3]; omega)) (by rw [g5]; omega)
    obtain ⟨t1, t2, t3, t4, t5⟩ := wr_low (m := m) hR hwr (fun r q => by omega)
    have n01 := rne c5 d5 (by omega)
    have n02 := rne c5 e5 (by omega)
    have n03 := rne c5 g5 (by omega)
    have n12 := rne d5 e5 (by omega)
    have n13 := rne d5 g5 (by omega)
    have n23 := rne e5 g5 (by omega)
    refine ⟨t1, RS_mm (m := m) (fun _ _ => rfl) (t2 hS), RA_mm (m := m) (fun _ _ => rfl) (fun j hj => ?_) (t3 hA), RJ_mm (m := m) (fun _ _ => rfl) (fun j hj => ?_) (t4 hJ), RW_mm (m := m) rfl (fun w _ _ => slc_of (fun j q1 q2 => ?_)) (t5 hW), RE_mm (m := m) rfl rfl (fun j hj => ?_) (fun w _ _ => slc_of (fun j q1 q2 => ?_)) (wr_E hR hwr (fun r q => by omega) (ev_nF h0) hE), ?_, RK_mm (m := m) rfl (Int.le_refl _) (Int.le_refl _) (fun j hj => ?_) (wr_K hR hwr (fun r q => by omega) hK)⟩
    · rw [ma_o, ma_o, ma_o, ma_o, ma_o] <;> (revert hj; revert j; decide)
    · rw [ma_o, ma_o, ma_o, ma_o, ma_o] <;> (revert hj; revert j; decide)
    · rw [ma_o (by omega), ma_o (by omega), ma_o (by omega), ma_o (by omega), ma_o (by omega)]
    · rw [ma_o, ma_o, ma_o, ma_o, ma_o] <;> (revert hj; revert j; decide)
    · rw [ma_o (by omega), ma_o (by omega), ma_o (by omega), ma_o (by omega), ma_o (by omega)]
    · refine ⟨hP.1, hP.2.1, ?_, fun q q1 q2 => ?_⟩
      · exact ML_m hR (ext_same hR hwr.1 hwr.2.1 hwr.2.2.1) (X := fun _ => False) (fun a ha _ => wr_sam hwr (fun q => by omega)) ⟨fun q => q, fun q => q, fun q => q⟩ (by decide) rfl rfl (fun _ _ => rfl) hP.2.2.1
      · by_cases hqp : q = p
        · subst hqp
          have aA : ∀ j, j < 4 → zA u' (L.1 (5001 + 8 * q + j)) = va_up (zA u (L.1 (5001 + 8 * q + j))) n (if j = 0 then w else if j = 1 then v else if j = 2 then f else k) := by
            intro j hj
            rw [← hu']
            funext i
            rcases (show j = 0 ∨ j = 1 ∨ j = 2 ∨ j = 3 by omega) with rfl | rfl | rfl | rfl <;>
            · simp only [Nat.add_zero, zsA_A, zsI_A, va_up_e, n01, n02, n03, n12, n13, n23, n01.symm, n02.symm, n03.symm, n12.symm, n13.symm, n23.symm, ne_eq, not_true_eq_false, not_false_eq_true, false_and, true_and, if_false, if_true]
              try simp
          have iI : zI u' (L.1 (5000 + 8 * q)) 804 = (n : Int) + 1 := by
            rw [← hu', zsA_I, zsI_I, if_pos ⟨rfl, rfl⟩]
          have mM : ∀ j i, j < 4 → (ma (ma (ma (ma (ma m 83 (24 * q + n) w) 84 (24 * q + n) v) 85 (24 * q + n) f) 86 (24 * q + n) k) 82 q ((ma (ma (ma (ma m 83 (24 * q + n) w) 84 (24 * q + n) v) 85 (24 * q + n) f) 86 (24 * q + n) k).2 82 q + 1)).2 (83 + j) i = va_up (m.2 (83 + j)) (24 * q + n) (if j = 0 then w else if j = 1 then v else if j = 2 then f else k) i := by
            intro j i hj
            rcases (show j = 0 ∨ j = 1 ∨ j = 2 ∨ j = 3 by omega) with rfl | rfl | rfl | rfl <;> simp [ma_2, va_up_e]
          have m82 : (ma (ma (ma (ma (ma m 83 (24 * q + n) w) 84 (24 * q + n) v) 85 (24 * q + n) f) 86 (24 * q + n) k) 82 q ((ma (ma (ma (ma m 83 (24 * q + n) w) 84 (24 * q + n) v) 85 (24 * q + n) f) 86 (24 * q + n) k).2 82 q + 1)).2 82 q = (n : Int) + 1 := by
            simp [ma_2, va_up_e]; omega
          generalize hm' : ma (ma (ma (ma (ma m 83 (24 * q + n) w) 84 (24 * q + n) v) 85 (24 * q + n) f) 86 (24 * q + n) k) 82 q ((ma (ma (ma (ma m 83 (24 * q + n) w) 84 (24 * q + n) v) 85 (24 * q + n) f) 86 (24 * q + n) k).2 82 q + 1) = m' at mM m82 ⊢
          have hm1 : m'.1 = m.1 := by rw [← hm']; rfl
          refine ⟨by rw [hwr.1]; exact b1, b2, b3, by rw [m82]; exact iI, by rw [m82]; omega, by rw [m82]; omega, fun j hj => ?_, fun i hi => ?_⟩
          · rw [hwr.1, hwr.2.1, hwr.2.2.2.1]; exact b7 j hj
          · rw [m82] at hi
            have M0 := mM 0 (24 * q + i) (by omega)
            have M1 := mM 1 (24 * q + i) (by omega)
            have M2 := mM 2 (24 * q + i) (by omega)
            have M3 := mM 3 (24 * q + i) (by omega)
            simp only [Nat.add_zero, Nat.reduceAdd] at M0 M1 M2 M3
            rw [M0, M1, M2, M3, hm1]
            by_cases hin : i = n
            · subst hin
              simp only [va_up_e, if_true]
              refine ⟨fun j hj => ?_, hw.1, hw.2, hv.1, hv.2, hv0, hv2, ?_⟩
              · rw [aA j hj, mM j _ hj, va_up_e, va_up_e, if_pos rfl, if_pos rfl]
              · simp
                omega
            · have hne : ¬ (24 * q + i = 24 * q + n) := by omega
              simp only [va_up_e, hne, if_false]
              obtain ⟨z1, z2⟩ := b8 i (by omega)
              refine ⟨fun j hj => ?_, z2⟩
              rw [aA j hj, mM j _ hj, va_up_e, va_up_e, if_neg hin, if_neg hne]
              exact z1 j hj
        · refine PE_mm (m := m) (Int.le_refl _) ?_ (fun j i hj q3 q4 => ?_) (PE_m hR (ext_same hR hwr.1 hwr.2.1 hwr.2.2.1) (fun j hj => ⟨rfl, fun hc => wr_sam hwr (fun z => by omega)⟩) (hP.2.2.2 q q1 q2))
          · simp [ma_2, va_up_e, hqp]
          · rcases hj with rfl | rfl | rfl | rfl <;> simp [ma_2, va_up_e] <;> omega
    · rw [ma_o, ma_o, ma_o, ma_o, ma_o] <;> (revert hj; revert j; decide)
theorem o_change {G : CG} {L : Ly} {u : Sg} {m : Mu} (h : RC G L u m) (p w v f k : Int) (hp : w32 p = p) (hw : w32 w = w) (hv : w32 v = v) (hf : w32 f = f) (hk : w32 k = k) : sim (f0_change G (some (L.1 3)) p w v f k u) (m5_change p w v f k m) (aft G L) := by
  unfold f0_change m5_change
  refine sim_L (ztg_e (rT3 h.1)) (sim_L (c_isP h hp) (sim_R (m_isP h hp) (sim_test (fun _ => sim_some ⟨rfl, h⟩) (fun h1 => ?_))))
  rw [hw, hv]
  refine sim_ite Iff.rfl (fun _ => sim_some ⟨rfl, h⟩) (fun h2 => sim_ite Iff.rfl (fun _ => sim_some ⟨rfl, h⟩) (fun h3 => ?_))
  obtain ⟨q, rfl⟩ : ∃ q : Nat, p = q := ⟨p.toNat, by omega⟩
  have hW := h.2.2.2.2.1
  have key : (w = 0 → v = 0 ∨ (1 ≤ v ∧ v ≤ m.1 11)) → sim (f0_change_b35 G (some (L.1 3)) q w v f k u) (m5_change_b35 q w v f k m) (aft G L) := by
    intro hwv
    have hw1 := hW.1
    have hw2 := hW.2.1
    unfold f0_change_b35 m5_change_b35 f0_change_b51 m5_change_b51
    rw [hw, hv]
    by_cases w1 : w = 1
    · refine sim_posL w1 (sim_posR w1 (sim_ite Iff.rfl (fun _ => sim_some ⟨rfl, h⟩) (fun h4 => sim_ite Iff.rfl (fun _ => sim_some ⟨rfl, h⟩) (fun h5 => ?_))))
      refine sim_negL (by omega) (sim_negR (by omega) ?_)
      exact change65 h (by omega) (by omega) (by omega) (by omega) (by omega) (by omega) hf hk
    · refine sim_negL w1 (sim_negR w1 ?_)
      by_cases w2 : w = 2
      · refine sim_posL w2 (sim_posR w2 (sim_ite Iff.rfl (fun _ => sim_some ⟨rfl, h⟩) (fun h4 => sim_ite Iff.rfl (fun _ => sim_some ⟨rfl, h⟩) (fun h5 => ?_))))
        exact change65 h (by omega) (by omega) (by omega) (by omega) (by omega) (by omega) hf hk
      · refine sim_negL w2 (sim_negR w2 ?_)
        have := hwv (by omega)
        exact change65 h (by omega) (by omega) (by omega) (by omega) (by omega) (by omega) hf hk
  refine sim_ite Iff.rfl (fun h4 => ?_) (fun h4 => key (fun q => absurd q h4))
  refine sim_ite Iff.rfl (fun h5 => key (fun _ => Or.inl h5)) (fun h5 => ?_)
  refine sim_L (ztg_e (rT3 h.1)) (sim_L (c_isW h hv) (sim_R (m_isW h hv) (sim_test (fun _ => sim_some ⟨rfl, h⟩) (fun h6 => key (fun _ => Or.inr h6)))))

/-! THE CALLS tell and loss -/
theorem slc_ma {m : Mu} {k i : Nat} {v : Int} {w : Nat} (hk : k < 12 ∨ 41 < k) : slc (ma m k i v) w = slc m w := slc_of (fun j h1 h2 => ma_o (by omega))
theorem tell69 {G : CG} {L : Ly} {u : Sg} {m : Mu} (h : RC G L u m) {e f w : Nat} {v k : Int} (h1 : 1 ≤ e) (h2 : (e : Int) ≤ m.1 71) (hw : m.2 72 e = w) (hf : f < nF (slc m w)) (hv : v = -1 ∨ (slc m w 17 f ≤ v ∧ v ≤ slc m w 18 f)) (hk : w32 k = k) : sim (f0_tell_b53 G (some (L.1 3)) e f v k u) (m5_tell_b69 e f v k m) (aft G L) := by
  have h0 := h
  obtain ⟨hR, hS, hA, hJ, hW, hE, hP, hK⟩ := h
  unfold f0_tell_b53 m5_tell_b69
  refine sim_L (c_isDay hk) (sim_R (m_isDay hk) (sim_test (fun _ => sim_some ⟨rfl, h0⟩) (fun d1 => ?_)))
  have n32 := hE.2.1
  have f8 := ev_nF h0 e h1 h2
  have hEE := hE.2.2.2 e h1 h2
  have hwn : ((w : Int)).toNat = w := by omega
  rw [hw, hwn] at f8
  obtain ⟨b1, b2, b3, b4, b5, l, b6, b7, b8⟩ := hEE
  rw [hw, hwn] at b7 b8
  obtain ⟨k1, k2⟩ := b8 f hf
  obtain ⟨n, hn⟩ : ∃ n : Nat, m.2 75 (8 * e + f) = n := ⟨(m.2 75 (8 * e + f)).toNat, by have := k1.2.2.2.2.1; omega⟩
  rw [hn] at k1 k2
  have n6 := k1.2.2.2.2.2.1
  have e1 : (8 * (e : Int) + (f : Int)) = ((8 * e + f : Nat) : Int) := by omega
  refine sim_L (gfR_v (rT3 hR) (rR3_6 hR)) (sim_L (ztg_e hE.2.2.1.1.1) (sim_L (ev_get h0 h1 h2) (sim_L (zcast_1 b4) (sim_L (gfR_v b4 b6) (sim_L (ztg_e (lf_tag b7)) (sim_L (lf_get b7 f rfl hf) (sim_L (zcast_1 k1.1) (sim_L (gfI_v k1.1 k1.2.2.2.1) (sim_mald (8 * e + f) e1 (by omega) (by omega) ?_)))))))))
  rw [hn]
  refine sim_ite Iff.rfl (fun _ => sim_some ⟨rfl, h0⟩) (fun hc => ?_)
  rw [w32_n (by omega)] at hc
  obtain ⟨u', eu, hwr, hka⟩ := KA_add k1 (by omega) v k
  have i1 : (6 * (8 * (e : Int) + (f : Int)) + m.2 75 (8 * e + f)) = ((6 * (8 * e + f) + n : Nat) : Int) := by omega
  refine sim_L (ztg_e k1.1) (sim_L eu (sim_L (gfI_v hka.1 hka.2.2.2.1) ?_))
  refine sim_mald (8 * e + f) e1 (by omega) (by omega) (sim_mast (6 * (8 * e + f) + n) i1 (by omega) (by omega) ?_)
  refine sim_mald (8 * e + f) e1 (by omega) (by omega) (sim_mast (6 * (8 * e + f) + n) i1 (by omega) (by omega) ?_)
  refine sim_mald (8 * e + f) e1 (by omega) (by omega) (sim_mast (8 * e + f) e1 (by omega) (by omega) (sim_mald (8 * e + f) e1 (by omega) (by omega) (sim_some ⟨?_, ?_⟩)))
  · simp [ma_2, va_up_e]; omega
  · obtain ⟨t1, t2, t3, t4, t5⟩ := wr_low (m := m) hR hwr (fun r q => by omega)
    have hM75 : ∀ i, (ma (ma (ma m 73 (6 * (8 * e + f) + n) v) 74 (6 * (8 * e + f) + n) k) 75 (8 * e + f) ((ma (ma m 73 (6 * (8 * e + f) + n) v) 74 (6 * (8 * e + f) + n) k).2 75 (8 * e + f) + 1)).2 75 i = if i = 8 * e + f then (n : Int) + 1 else m.2 75 i := by
      intro i; simp [ma_2, va_up_e]; omega
    have hM73 : ∀ i, (ma (ma (ma m 73 (6 * (8 * e + f) + n) v) 74 (6 * (8 * e + f) + n) k) 75 (8 * e + f) ((ma (ma m 73 (6 * (8 * e + f) + n) v) 74 (6 * (8 * e + f) + n) k).2 75 (8 * e + f) + 1)).2 73 i = if i = 6 * (8 * e + f) + n then v else m.2 73 i := by
      intro i; simp [ma_2, va_up_e]
    have hM74 : ∀ i, (ma (ma (ma m 73 (6 * (8 * e + f) + n) v) 74 (6 * (8 * e + f) + n) k) 75 (8 * e + f) ((ma (ma m 73 (6 * (8 * e + f) + n) v) 74 (6 * (8 * e + f) + n) k).2 75 (8 * e + f) + 1)).2 74 i = if i = 6 * (8 * e + f) + n then k else m.2 74 i := by
      intro i; simp [ma_2, va_up_e]
    have hMo : ∀ j, j ≠ 73 → j ≠ 74 → j ≠ 75 → (ma (ma (ma m 73 (6 * (8 * e + f) + n) v) 74 (6 * (8 * e + f) + n) k) 75 (8 * e + f) ((ma (ma m 73 (6 * (8 * e + f) + n) v) 74 (6 * (8 * e + f) + n) k).2 75 (8 * e + f) + 1)).2 j = m.2 j := by
      intro j q1 q2 q3; rw [ma_o q3, ma_o q2, ma_o q1]
    have hM1 : (ma (ma (ma m 73 (6 * (8 * e + f) + n) v) 74 (6 * (8 * e + f) + n) k) 75 (8 * e + f) ((ma (ma m 73 (6 * (8 * e + f) + n) v) 74 (6 * (8 * e + f) + n) k).2 75 (8 * e + f) + 1)).1 = m.1 := rfl
    generalize ma (ma (ma m 73 (6 * (8 * e + f) + n) v) 74 (6 * (8 * e + f) + n) k) 75 (8 * e + f) ((ma (ma m 73 (6 * (8 * e + f) + n) v) 74 (6 * (8 * e + f) + n) k).2 75 (8 * e + f) + 1) = m' at *
    have hz : ∀ w, slc m' w = slc m w := fun w => slc_of (fun j q1 q2 => hMo j (by omega) (by omega) (by omega))
    have he := ext_same hR hwr.1 hwr.2.1 hwr.2.2.1
    have hl : low L u u' (fun _ => False) := fun a ha _ => wr_sam hwr (fun q => by omega)
    have hf9 := frz_low hR he hl (fun q => q)
    refine ⟨t1, RS_mm (fun _ _ => by rw [hM1]) (t2 hS), RA_mm (fun _ _ => by rw [hM1]) (fun j hj => hMo j (by rintro rfl; revert hj; decide) (by rintro rfl; revert hj; decide) (by rintro rfl; revert hj; decide)) (t3 hA), RJ_mm (fun _ _ => by rw [hM1]) (fun j hj => hMo j (by rintro rfl; revert hj; decide) (by rintro rfl; revert hj; decide) (by rintro rfl; revert hj; decide)) (t4 hJ), RW_mm (m := m) (by rw [hM1]) (fun w _ _ => hz w) (t5 hW), ?_, RP_mm (m := m) (by rw [hM1]; exact Int.le_refl _) (by rw [hM1]) (fun j hj => hMo j (by rintro rfl; revert hj; decide) (by rintro rfl; revert hj; decide) (by rintro rfl; revert hj; decide)) (wr_P hR hwr (fun r q => by omega) hP), RK_mm (m := m) (by rw [hM1]) (by rw [hM1]; exact Int.le_refl _) (by rw [hM1]; exact Int.le_refl _) (fun j hj => hMo j (by rintro rfl; revert hj; decide) (by rintro rfl; revert hj; decide) (by rintro rfl; revert hj; decide)) (wr_K hR hwr (fun r q => by omega) hK)⟩
    unfold RE
    rw [hM1]
    refine ⟨hE.1, hE.2.1, ML_m hR he hl ⟨fun q => q, fun q => q, fun q => q⟩ (by decide) rfl rfl (fun _ _ => rfl) hE.2.2.1, fun e' q1 q2 => ?_⟩
    have f8' := ev_nF h0 e' q1 q2
    obtain ⟨c1, c2, c3, c4, c5, l', c6, c7, c8⟩ := hE.2.2.2 e' q1 q2
    obtain ⟨p0, p1, p2, p3, p4, -⟩ := hf9.2 _ c3
    unfold EE
    rw [hMo 72 (by decide) (by decide) (by decide), hM1, hz, p1, p4]
    refine ⟨c1, c2, c3, c4, c5, l', c6, LF_k hf9 c7, fun f' hf' => ?_⟩
    obtain ⟨k3, k4⟩ := c8 f' hf'
    by_cases hee : e' = e ∧ f' = f
    · obtain ⟨rfl, rfl⟩ := hee
      rw [hM75, if_pos rfl]
      refine ⟨KA_cg hka rfl (fun q hq => ?_), fun q hq => ?_⟩
      · rw [hM73, hM74, va_up_e, va_up_e]
        by_cases hqn : q = n
        · simp [hqn]
        · simp [hqn]
      · rw [hM73, hM74]
        by_cases hqn : q = n
        · rw [if_pos (by omega), if_pos (by omega), hw, hwn]
          exact ⟨hv, d1.1, d1.2⟩
        · rw [if_neg (by omega), if_neg (by omega)]
          exact k4 q (by omega)
    · have hne : ¬ (8 * e' + f' = 8 * e + f) := by omega
      rw [hM75, if_neg hne]
      have hb := k3.2.2.2.2.2.1
      refine ⟨KA_cg (KA_m hR he (by omega) (fun j hj => ⟨rfl, fun hc => wr_sam hwr (fun z => by omega)⟩) k3) rfl (fun q hq => ?_), fun q hq => ?_⟩
      · rw [hM73, hM74, if_neg (by omega), if_neg (by omega)]; exact ⟨rfl, rfl⟩
      · rw [hM73, hM74, if_neg (by omega), if_neg (by omega)]; exact k4 q hq
theorem o_tell {G : CG} {L : Ly} {u : Sg} {m : Mu} (h : RC G L u m) (e f v k : Int) (he : w32 e = e) (hf : w32 f = f) (hv : w32 v = v) (hk : w32 k = k) : sim (f0_tell G (some (L.1 3)) e f v k u) (m5_tell e f v k m) (aft G L) := by
  unfold f0_tell m5_tell
  refine sim_L (ztg_e (rT3 h.1)) (sim_L (c_isFact h he hf) (sim_R (m_isE h he) ?_))
  rw [w32_b2i, w32_b2i, hf, hv]
  by_cases h1 : 1 ≤ e ∧ e ≤ m.1 71
  · rw [decide_eq_true h1]
    refine sim_negR (by decide) ?_
    obtain ⟨n, rfl⟩ : ∃ n : Nat, e = n := ⟨e.toNat, by omega⟩
    have hn32 := h.2.2.2.2.2.1.2.1
    by_cases h2 : f < 0
    · rw [decide_eq_false (by omega)]
      exact sim_posL (by decide) (sim_posR h2 (sim_some ⟨rfl, h⟩))
    refine sim_negR h2 ?_
    obtain ⟨w, w1, w2, w12, w3, hEE, hM, hWA, w4, w5⟩ := ev_at h (e := n) (by omega) (by omega)
    refine sim_mald n rfl (by omega) (by omega) ?_
    rw [w3]
    refine sim_mald w rfl (by omega) (by omega) ?_
    show sim (if b2i (decide (1 ≤ (n : Int) ∧ (n : Int) ≤ m.1 71 ∧ 0 ≤ f ∧ f < m.2 12 (m.2 72 n).toNat)) = 0 then _ else _) _ _
    rw [w3, show ((w : Int)).toNat = w by omega, w4, w32_n (by omega)]
    by_cases h3 : f < (nF (slc m w) : Int)
    · rw [decide_eq_true (by omega)]
      refine sim_negL (by decide) (sim_posR h3 ?_)
      refine sim_mald n rfl (by omega) (by omega) ?_
      obtain ⟨g, rfl⟩ : ∃ g : Nat, f = g := ⟨f.toNat, by omega⟩
      by_cases h4 : v = -1
      · exact sim_posL h4 (sim_posR h4 (tell69 h (by omega) (by omega) w3 (by omega) (Or.inl h4) hk))
      refine sim_negL h4 (sim_negR h4 ?_)
      rw [w3]
      obtain ⟨b1, b2, b3, b4, b5, l, b6, b7, b8⟩ := hEE
      rw [w3, show ((w : Int)).toNat = w by omega] at b5
      have hE := h.2.2.2.2.2.1
      obtain ⟨⟨a1, a2⟩, ⟨lf, el, a3, a4, a5⟩, -⟩ := hWA
      obtain ⟨z1, z2, z3, z4, z5, z6, z7, -⟩ := a5 g (by omega)
      have e8 : (8 * (w : Int) + (g : Int)) = ((8 * w + g : Nat) : Int) := by omega
      have r17 : m.2 17 (8 * w + g) = slc m w 17 g := slc_e _ (by show g < 8; omega) (by show 8 * w + g = _; rfl)
      have r18 : m.2 18 (8 * w + g) = slc m w 18 g := slc_e _ (by show g < 8; omega) (by show 8 * w + g = _; rfl)
      have hfa := hM.2.1 g (by omega)
      refine sim_L (gfR_v (rT3 h.1) (rR3_6 h.1)) (sim_L (ztg_e hE.2.2.1.1.1) (sim_L (ev_get h (by omega) (by omega)) (sim_L (zcast_1 b4) (sim_L (gfR_v b4 b5) (sim_L (gfR_v a2 a3) (sim_L (ztg_e (lf_tag a4)) (sim_L (lf_get a4 g rfl (by omega)) (sim_L (zcast_1 z2) (sim_L (ztg_e z2) ?_)))))))))
      have wl : w32 (slc m w 17 g) = slc m w 17 g := w32_id (by omega) (by omega)
      have wh : w32 (slc m w 18 g) = slc m w 18 g := w32_id (by omega) (by omega)
      have hhas : f9_has G (some (el g)) v u = some (b2i (decide (slc m w 17 g ≤ v ∧ v ≤ slc m w 18 g))) := by
        unfold f9_has
        rw [gfI_v z2 z6, Option.bind_some, hv, wl]
        by_cases q1 : v < slc m w 17 g
        · rw [if_pos q1, decide_eq_false (by omega)]; rfl
        · rw [if_neg q1, gfI_v z2 z7, Option.bind_some, wh]
          by_cases q2 : slc m w 18 g < v
          · rw [if_pos q2, decide_eq_false (by omega)]; rfl
          · rw [if_neg q2, decide_eq_true (by omega)]; rfl
      refine sim_L hhas (sim_mald (8 * w + g) e8 (by omega) (by omega) ?_)
      rw [r17, wl, w32_b2i]
      by_cases q1 : v < slc m w 17 g
      · rw [decide_eq_false (by omega)]
        exact sim_posL (by decide) (sim_posR q1 (sim_some ⟨rfl, h⟩))
      refine sim_negR q1 (sim_mald (8 * w + g) e8 (by omega) (by omega) ?_)
      rw [r18, wh]
      by_cases q2 : slc m w 18 g < v
      · rw [decide_eq_false (by omega)]
        exact sim_posL (by decide) (sim_posR q2 (sim_some ⟨rfl, h⟩))
      rw [decide_eq_true (by omega)]
      exact sim_negL (by decide) (sim_negR q2 (tell69 h (by omega) (by omega) w3 (by omega) (Or.inr (by omega)) hk))
    · rw [decide_eq_false (by omega)]
      exact sim_posL (by decide) (sim_negR h3 (sim_some ⟨rfl, h⟩))
  · rw [decide_eq_false h1, decide_eq_false (by omega)]
    exact sim_posL (by decide) (sim_posR (by decide) (sim_some ⟨rfl, h⟩))
theorem o_loss {G : CG} {L : Ly} {u : Sg} {m : Mu} (h : RC G L u m) (c v k : Int) (hc : w32 c = c) (hv : w32 v = v) (hk : w32 k = k) : sim (f0_loss G (some (L.1 3)) c v k u) (m5_loss c v k m) (aft G L) := by
  have h0 := h
  unfold f0_loss m5_loss
  refine sim_L (ztg_e (rT3 h.1)) (sim_L (c_isK h hc) (sim_R (m_isK h hc) (sim_test (fun _ => sim_some ⟨rfl, h⟩) (fun h1 => ?_))))
  rw [hv]
  refine sim_ite Iff.rfl (fun _ => sim_some ⟨rfl, h⟩) (fun h2 => sim_ite Iff.rfl (fun _ => sim_some ⟨rfl, h⟩) (fun h3 => ?_))
  refine sim_L (c_isDay hk) (sim_R (m_isDay hk) (sim_test (fun _ => sim_some ⟨rfl, h⟩) (fun d1 => ?_)))
  obtain ⟨q, rfl⟩ : ∃ q : Nat, c = q := ⟨c.toNat, by omega⟩
  obtain ⟨hR, hS, hA, hJ, hW, hE, hP, hK⟩ := h
  have n40 := hK.2.1
  obtain ⟨b1, b2, b3, b4, b5, b6, b7, b8, b9, b10, b11, b12, b13, b14, b15, b16, b17, b18, b19, b20⟩ := hK.2.2.2.1 q (by omega) (by omega)
  obtain ⟨n, hn⟩ : ∃ n : Nat, m.2 92 q = n := ⟨(m.2 92 q).toNat, by have := b17.2.2.2.2.1; omega⟩
  rw [hn] at b17 b18
  have n6 := b17.2.2.2.2.2.1
  refine sim_L (gfR_v (rT3 hR) (rR3_8 hR)) (sim_L (ztg_e hK.2.2.1.1.1) (sim_L (cl_get h0 (by omega) (by omega)) (sim_L (zcast_1 b1) (sim_L (gfR_v b1 b16) (sim_L (gfI_v b17.1 b17.2.2.2.1) (sim_mald q rfl (by omega) (by omega) ?_))))))
  rw [hn]
  refine sim_ite Iff.rfl (fun _ => sim_some ⟨rfl, h0⟩) (fun hc => ?_)
  rw [w32_n (by omega)] at hc
  obtain ⟨u', eu, hwr, hka⟩ := KA_add b17 (by omega) v k
  have i1 : (6 * (q : Int) + m.2 92 q) = ((6 * q + n : Nat) : Int) := by omega
  refine sim_L (ztg_e b17.1) (sim_L eu (sim_L (gfI_v hka.1 hka.2.2.2.1) ?_))
  refine sim_mald q rfl (by omega) (by omega) (sim_mast (6 * q + n) i1 (by omega) (by omega) ?_)
  refine sim_mald q rfl (by omega) (by omega) (sim_mast (6 * q + n) i1 (by omega) (by omega) ?_)
  refine sim_mald q rfl (by omega) (by omega) (sim_mast q rfl (by omega) (by omega) (sim_mald q rfl (by omega) (by omega) (sim_some ⟨?_, ?_⟩)))
  · simp [ma_2, va_up_e]; omega
  · obtain ⟨t1, t2, t3, t4, t5⟩ := wr_low (m := m) hR hwr (fun r q => by omega)
    have hM92 : ∀ i, (ma (ma (ma m 93 (6 * q + n) v) 94 (6 * q + n) k) 92 q ((ma (ma m 93 (6 * q + n) v) 94 (6 * q + n) k).2 92 q + 1)).2 92 i = if i = q then (n : Int) + 1 else m.2 92 i := by
      intro i; simp [ma_2, va_up_e]; omega
    have hM93 : ∀ i, (ma (ma (ma m 93 (6 * q + n) v) 94 (6 * q + n) k) 92 q ((ma (ma m 93 (6 * q + n) v) 94 (6 * q + n) k).2 92 q + 1)).2 93 i = if i = 6 * q + n then v else m.2 93 i := by
      intro i; simp [ma_2, va_up_e]
    have hM94 : ∀ i, (ma (ma (ma m 93 (6 * q + n) v) 94 (6 * q + n) k) 92 q ((ma (ma m 93 (6 * q + n) v) 94 (6 * q + n) k).2 92 q + 1)).2 94 i = if i = 6 * q + n then k else m.2 94 i := by
      intro i; simp [ma_2, va_up_e]
    have hMo : ∀ j, j ≠ 92 → j ≠ 93 → j ≠ 94 → (ma (ma (ma m 93 (6 * q + n) v) 94 (6 * q + n) k) 92 q ((ma (ma m 93 (6 * q + n) v) 94 (6 * q + n) k).2 92 q + 1)).2 j = m.2 j := by
      intro j q1 q2 q3; rw [ma_o q1, ma_o q3, ma_o q2]
    have hM1 : (ma (ma (ma m 93 (6 * q + n) v) 94 (6 * q + n) k) 92 q ((ma (ma m 93 (6 * q + n) v) 94 (6 * q + n) k).2 92 q + 1)).1 = m.1 := rfl
    generalize ma (ma (ma m 93 (6 * q + n) v) 94 (6 * q + n) k) 92 q ((ma (ma m 93 (6 * q + n) v) 94 (6 * q + n) k).2 92 q + 1) = m' at *
    have hz : ∀ w, slc m' w = slc m w := fun w => slc_of (fun j q1 q2 => hMo j (by omega) (by omega) (by omega))
    have he := ext_same hR hwr.1 hwr.2.1 hwr.2.2.1
    have hl : low L u u' (fun _ => False) := fun a ha _ => wr_sam hwr (fun q => by omega)
    refine ⟨t1, RS_mm (fun _ _ => by rw [hM1]) (t2 hS), RA_mm (fun _ _ => by rw [hM1]) (fun j hj => hMo j (by rintro rfl; revert hj; decide) (by rintro rfl; revert hj; decide) (by rintro rfl; revert hj; decide)) (t3 hA), RJ_mm (fun _ _ => by rw [hM1]) (fun j hj => hMo j (by rintro rfl; revert hj; decide) (by rintro rfl; revert hj; decide) (by rintro rfl; revert hj; decide)) (t4 hJ), RW_mm (m := m) (by rw [hM1]) (fun w _ _ => hz w) (t5 hW), RE_mm (m := m) (by rw [hM1]) (by rw [hM1]) (fun j hj => hMo j (by rintro rfl; revert hj; decide) (by rintro rfl; revert hj; decide) (by rintro rfl; revert hj; decide)) (fun w _ _ => hz w) (wr_E hR hwr (fun r q => by omega) (ev_nF h0) hE), RP_mm (m := m) (by rw [hM1]; exact Int.le_refl _) (by rw [hM1]) (fun j hj => hMo j (by rintro rfl; revert hj; decide) (by rintro rfl; revert hj; decide) (by rintro rfl; revert hj; decide)) (wr_P hR hwr (fun r q => by omega) hP), ?_⟩
    unfold RK
    rw [hM1]
    refine ⟨hK.1, hK.2.1, ML_m hR he hl ⟨fun q => q, fun q => q, fun q => q⟩ (by decide) rfl rfl (fun _ _ => rfl) hK.2.2.1, fun c q1 q2 => ?_, by rw [hMo 107 (by decide) (by decide) (by decide), hMo 108 (by decide) (by decide) (by decide)]; exact hK.2.2.2.2⟩
    by_cases hcq : c = q
    · subst hcq
      have s0 := wr_sam hwr (a := L.1 (4000 + 8 * c)) (by rw [b3]; omega)
      unfold KE
      rw [hM1, hMo 88 (by decide) (by decide) (by decide), hMo 89 (by decide) (by decide) (by decide), hMo 90 (by decide) (by decide) (by decide), hMo 91 (by decide) (by decide) (by decide), hMo 107 (by decide) (by decide) (by decide), hMo 108 (by decide) (by decide) (by decide), hM92, if_pos rfl, s0.1, s0.2.2.1, s0.2.2.2.1]
      refine ⟨b1, b2, b3, b4, b5, b6, b7, b8, b9, b10, b11, b12, b13, b14, b15, b16, KA_cg hka rfl (fun i hi => ?_), fun i hi => ?_, b19, b20⟩
      · rw [hM93, hM94, va_up_e, va_up_e]
        by_cases hqn : i = n
        · simp [hqn]
        · simp [hqn]
      · rw [hM93, hM94]
        by_cases hqn : i = n
        · rw [if_pos (by omega), if_pos (by omega)]; omega
        · rw [if_neg (by omega), if_neg (by omega)]; exact b18 i (by omega)
    · refine KE_mm (m := m) (by rw [hM1]; exact Int.le_refl _) (by rw [hM1]; exact Int.le_refl _) (fun j hj => ?_) (fun j i hj q3 q4 => ?_) (KE_m hR he (fun _ _ _ => rfl) (fun j hj => ⟨rfl, fun hc => wr_sam hwr (fun z => by omega)⟩) (hK.2.2.2.1 c q1 q2))
      · by_cases j92 : j = 92
        · rw [j92, hM92, if_neg hcq]
        · rw [hMo j j92 (by rintro rfl; revert hj; decide) (by rintro rfl; revert hj; decide)]
      · rcases hj with rfl | rfl
        · rw [hM93, if_neg (by omega)]
        · rw [hM94, if_neg (by omega)]

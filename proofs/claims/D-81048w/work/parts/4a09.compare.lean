/-! compare: in step -/
/-- the joint is set: F facts, N ways, the starts cn, ca -/
def JD (L : Ly) (t : Sg) (F N : Nat) (cn : Nat → Nat) (ca : Nat → Nat → Int) (hs : Nat → Int) : Prop := zI t (L.1 115) 121 = (F : Int) ∧ zI t (L.1 115) 122 = (N : Int) ∧ ∀ f, f < F → ST L t f (cn f) (ca f) (hs f)
def JMt (m : Mu) (F N : Nat) (cn : Nat → Nat) (ca : Nat → Nat → Int) : Prop := m.1 65 = (N : Int) ∧ ∀ f, f < F → m.2 64 f = (cn f : Int) ∧ ∀ j, j < cn f → m.2 63 (2000 * f + j) = ca f j
theorem JD_k {G : CG} {L : Ly} {t t' : Sg} {F N : Nat} {cn : Nat → Nat} {ca : Nat → Nat → Int} {hs : Nat → Int} (hR : Rt G t L) (hF : F ≤ 8) (h : JD L t F N cn ca hs) (h1 : ∀ g, g = 121 ∨ g = 122 → zI t' (L.1 115) g = zI t (L.1 115) g) (h2 : ∀ a r, L.2 a = r → 160 ≤ r → r ≤ 167 → zI t' a = zI t a) (h3 : ∀ a r, L.2 a = r → 170 ≤ r → r ≤ 177 → zA t' a = zA t a) : JD L t' F N cn ca hs := by
  refine ⟨by rw [h1 121 (Or.inl rfl)]; exact h.1, by rw [h1 122 (Or.inr rfl)]; exact h.2.1, fun f hf => ?_⟩
  obtain ⟨⟨t1, t2, t3⟩, ⟨r1, r2, r3, r4⟩, rr⟩ := rSt hR (f := f) (by omega)
  obtain ⟨a1, a2, a3⟩ := h.2.2 f hf
  exact ⟨by rw [h2 _ _ t2 (by omega) (by omega)]; exact a1, by rw [h2 _ _ t2 (by omega) (by omega)]; exact a2, fun k hk => by rw [h3 _ _ r3 (by omega) (by omega)]; exact a3 k hk⟩
theorem JMt_k {m m' : Mu} {F N : Nat} {cn : Nat → Nat} {ca : Nat → Nat → Int} (h : JMt m F N cn ca) (h1 : m'.1 65 = m.1 65) (h2 : m'.2 63 = m.2 63) (h3 : m'.2 64 = m.2 64) : JMt m' F N cn ca := by
  unfold JMt
  rw [h1, h2, h3]
  exact h
theorem stX_lo {kind lo hi : Int} {P : Int → Prop} {x : Int} (h : stX kind lo hi P x) : lo ≤ x := by
  unfold stX bsX at h
  rcases h with z | z
  · split at z <;> omega
  · omega
theorem sim_pairL {β : Type} {x : Option (Int × Sg)} {y : Option β} {R : Int × Sg → β → Prop} (h : sim x y R) : sim (x.bind fun q => some (q.1, q.2)) y R := by
  obtain ⟨a, b, e1, e2, r⟩ := h
  exact ⟨a, b, by rw [e1]; rfl, e2, r⟩
/-- a side is kept on both sides -/
theorem o_keep {G : CG} {L : Ly} {t : Sg} {w : Mu} (h : RC G L t w) {a F s : Nat} {v : Nat → Int} (hF : F ≤ 8) (hs : s < 2) (ha : a ≤ 13) (h12 : w.2 12 a = (F : Int)) (h21 : zI t (L.1 115) 121 = (F : Int)) (h25 : zI t (L.1 115) 125 = (F : Int)) (h68 : w.1 68 = 1) (hv : ∀ f, f < F → zA t (L.1 140) f = v f) (hw : ∀ f, f < F → w.2 59 f = v f) {v2 v3 : Int} : ∃ t' w', f3_keep G (some (L.1 115)) s t = some t' ∧ (∀ kh, m5_compare_b125 kh a v2 v3 s w = kh (v3 + 1) w') ∧ RC G L t' w' ∧ zI t' = zI t ∧ (∀ x, L.2 x ≠ 147 → L.2 x ≠ 148 → zA t' x = zA t x) ∧ mfr [] [66, 67] w w' := by
  have hR := h.1
  obtain ⟨j1, j2, j3, j4⟩ := id h.2.2.2.1
  obtain ⟨p1, p2, p3⟩ := j1 s hs
  have p4 := j3 s hs
  have wb : w32 (w.2 67 s) = w.2 67 s := w32_id (by omega) (by omega)
  rcases p1 with z | z
  · -- not yet
    have hneg : w.2 67 s < 0 := by
      refine Classical.byContradiction fun q => ?_
      have := p2.mpr ⟨h68, by omega⟩
      omega
    obtain ⟨t', e1, ⟨k1, k2, k3, k4, k5, k6⟩, k7, k8, k9⟩ := c_keep h hF hs h21 hv z
    obtain ⟨w', e2, f2, g2⟩ := m_keepL (m := ma w 67 s (F : Int)) (a := a) (s := s) (v := v) (v2 := v2) (v3 := v3) hF hs ha (by rw [ma_o (by decide)]; exact h12) (fun f hf => by rw [ma_o (by decide)]; exact hw f hf)
    have e66 : ∀ i, w'.2 66 i = if 8 * s ≤ i ∧ i < 8 * s + F then v (i - 8 * s) else w.2 66 i := fun i => by rw [g2 i, ma_o (by decide)]
    have e67 : ∀ i, w'.2 67 i = if i = s then (F : Int) else w.2 67 i := fun i => by rw [f2.2 67 (by simp), ma_s]
    have fr : mfr [] [66, 67] w w' := mfr_tr (mfr_ma mfr_rf (by simp)) (mfr_up f2 (by simp) (by simp))
    refine ⟨t', w', e1, fun kh => ?_, ?_, k6, k7, fr⟩
    · unfold m5_compare_b125
      rw [w32_n (by omega), if_neg (by omega), mald_e s rfl (by omega) (by omega), Option.bind_some, wb, if_neg (by omega), mald_e a rfl (by omega) (by omega), Option.bind_some, h12, mast_e s rfl (by omega) (by omega), Option.bind_some, e2, Option.bind_some]
    · have e49 : zA t' (L.1 149) = zA t (L.1 149) := k7 _ (by rw [rC149 hR]; decide) (by rw [rC149 hR]; decide)
      refine RC_J h ⟨k1, k2, k3, k4, k5, fun x hx => ⟨by rw [k6], k7 x (by omega) (by omega)⟩⟩ (mfr_up fr (by simp) (by simp)) ⟨fun i hi => ?_, ?_, fun i hi => ?_, ?_⟩
      · rw [k8 i, e67 i, k6, fr.1 68 (by simp)]
        by_cases q : i = s
        · subst q
          rw [if_pos rfl, if_pos rfl]
          refine ⟨Or.inr rfl, ⟨fun _ => ⟨h68, by omega⟩, fun _ => rfl⟩, fun _ => ⟨h25, by omega, fun f hf => ?_⟩⟩
          rw [k9, e66, if_pos (by omega), if_pos (by omega)]
        · rw [if_neg q, if_neg q]
          obtain ⟨q1, q2, q3⟩ := j1 i hi
          refine ⟨q1, q2, fun y => ⟨(q3 y).1, (q3 y).2.1, fun f hf => ?_⟩⟩
          have := (q3 y).2.1
          rw [k9, e66, if_neg (by omega), if_neg (by omega)]
          exact (q3 y).2.2 f hf
      · rw [fr.1 68 (by simp)]; exact j2
      · rw [e67 i]
        split
        · omega
        · exact j3 i hi
      · rw [k6, e49, fr.1 70 (by simp), fr.2 69 (by simp)]
        exact j4
  · have hpos : 0 ≤ w.2 67 s := (p2.mp z).2
    refine ⟨t, w, c_keep1 h hs z, fun kh => ?_, h, rfl, fun _ _ _ => rfl, mfr_rf⟩
    unfold m5_compare_b125
    rw [w32_n (by omega), if_neg (by omega), mald_e s rfl (by omega) (by omega), Option.bind_some, wb, if_pos hpos]
theorem o_compL {G : CG} {L : Ly} {t : Sg} {w : Mu} (h : RC G L t w) {a b F N : Nat} {cn : Nat → Nat} {ca : Nat → Nat → Int} {hs : Nat → Int} (a1 : 1 ≤ a) (a2 : (a : Int) ≤ w.1 11) (b1 : 1 ≤ b) (b2 : (b : Int) ≤ w.1 11) (hFa : nF (slc w a) = F) (hFb : nF (slc w b) = F) (hcn : ∀ f, f < F → 1 ≤ cn f ∧ cn f ≤ 1219) (hca : ∀ f, f < F → ∀ k, k < cn f → slc w a 17 f ≤ ca f k ∧ slc w b 17 f ≤ ca f k ∧ ca f k ≤ 999999999) (hN : N ≤ 20000) (hD : JD L t F N cn ca hs) (hM : JMt w F N cn ca) (h25 : zI t (L.1 115) 125 = (F : Int)) (h68 : w.1 68 = 1) : sim (f3_compare_l24 G (some (L.1 115)) (some (L.1 (300 + a))) (some (L.1 (300 + b))) NN 0 t) (m5_compare_l63 a b NN 0 w) (fun t' w' => RC G L t' w' ∧ w'.1 68 = 1) := by
  have w12 := h.2.2.2.2.1.2.1
  obtain ⟨W, hW⟩ : ∃ W, slc w a = W := ⟨_, rfl⟩
  obtain ⟨V, hV⟩ : ∃ V, slc w b = V := ⟨_, rfl⟩
  rw [hW] at hFa hca
  rw [hV] at hFb hca
  have hMW : WM W := by rw [← hW]; exact (h.2.2.2.2.1.2.2.2 a a1 a2).1
  have hMV : WM V := by rw [← hV]; exact (h.2.2.2.2.1.2.2.2 b b1 b2).1
  have f8 : F ≤ 8 := by rw [← hFa]; exact (nF_e hMW).2
  have f0 : W 12 0 = (F : Int) := by rw [← hFa]; exact (nF_e hMW).1
  have key := sim_loop (fun q (s : Nat × Sg) => f3_compare_l24 G (some (L.1 115)) (some (L.1 (300 + a))) (some (L.1 (300 + b))) q (s.1 : Int) s.2) (fun q (s : Nat × Mu) => m5_compare_l63 a b q (s.1 : Int) s.2) (fun s _ => N - s.1) (fun s t => s.1 = t.1 ∧ s.1 ≤ N ∧ RC G L s.2 t.2 ∧ JD L s.2 F N cn ca hs ∧ JMt t.2 F N cn ca ∧ zI s.2 (L.1 115) 125 = (F : Int) ∧ t.2.1 68 = 1 ∧ slc t.2 a = W ∧ slc t.2 b = V ∧ t.2.1 11 = w.1 11) (fun t' w' => RC G L t' w' ∧ w'.1 68 = 1) (by
    rintro n k ⟨c, t⟩ ⟨c', w1⟩ ⟨hcc, hc, ht, hD, hM, h25, h68, sW, sV, w11⟩ ih
    dsimp only at hcc hc ht hD hM h25 h68 sW sV w11 ⊢
    subst hcc
    show sim (f3_compare_l24 G (some (L.1 115)) (some (L.1 (300 + a))) (some (L.1 (300 + b))) (n + 1) (c : Int) t) (m5_compare_l63 a b (k + 1) (c : Int) w1) _
    unfold f3_compare_l24 m5_compare_l63
    have hR := ht.1
    refine sim_L (gfI_v (rT115 hR) hD.2.1) ?_
    rw [hM.1, w32_n (by omega), w32_n (by omega), w64_id (x := (N : Int)) (by omega) (by omega), w64_id (x := (c : Int)) (by omega) (by omega)]
    refine sim_ite Iff.rfl (fun _ => sim_some ⟨ht, h68⟩) (fun hz => ?_)
    have hcN : c < N := by omega
    obtain ⟨t1, e1, s1, v1⟩ := c_jway ht f8 hD.1 (fun f hf => ⟨hD.2.2 f hf, hcn f hf⟩) (c := c) (by omega)
    obtain ⟨w2, e2, g2, v2⟩ := m_jway (m := w1) f8 (fun f hf => ⟨hM.2 f hf, hcn f hf⟩) (c := c) (by omega)
    have ht1 := RC_msc (RC_scr ht (s40_scr s1)) (mfr_up g2 (by simp) (by decide))
    have hR1 := ht1.1
    have e12 : mald w1 12 14 (a : Int) = some (F : Int) := by
      rw [← f0, ← sW]; exact m_sl (w := a) (k := 12) (j := 0) (by decide) (by show (a : Int) = ((1 * a + 0 : Nat) : Int); omega) (by show 1 * a + 0 < 14; omega) (by omega)
    have sW2 : slc w2 a = W := by rw [← sW]; exact slc_of (fun j h1 h2 => g2.2 j (by simp; omega))
    have sV2 : slc w2 b = V := by rw [← sV]; exact slc_of (fun j h1 h2 => g2.2 j (by simp; omega))
    have hw11 : w2.1 11 = w.1 11 := by rw [g2.1 11 (by simp)]; exact w11
    have hAW := (ht1.2.2.2.2.1.2.2.2 a a1 (by rw [hw11]; exact a2)).2
    have hAV := (ht1.2.2.2.2.1.2.2.2 b b1 (by rw [hw11]; exact b2)).2
    rw [sW2] at hAW
    rw [sV2] at hAV
    have jb : ∀ f, f < F → W 17 f ≤ jv cn ca F c f ∧ V 17 f ≤ jv cn ca F c f ∧ jv cn ca F c f ≤ 999999999 := fun f hf => hca f hf _ (Nat.mod_lt _ (by have := (hcn f hf).1; omega))
    obtain ⟨d1, x1, y1⟩ := c_ansAt hMW hAW (jv cn ca F c)
    obtain ⟨d2, x2, y2⟩ := c_ansAt hMV hAV (jv cn ca F c)
    refine sim_L (ztg_e (rT115 hR)) (sim_L e1 (sim_L (gfR_v hAW.1.2 x1) (sim_L (gfR_v (rT115 hR1) (rR115_129 hR1)) (sim_L (gfR_v (rT3 hR1) (rR3_13 hR1)) (sim_L (ztg_e hAW.1.2) (sim_L (c_num ht1 hMW hAW (v := jv cn ca F c) (fun f hf => ⟨v1 f (by omega), (jb f (by omega)).1, (jb f (by omega)).2.2⟩)) (sim_L y1 ?_)))))))
    refine sim_L (gfR_v hAV.1.2 x2) (sim_L (gfR_v (rT115 hR1) (rR115_129 hR1)) (sim_L (gfR_v (rT3 hR1) (rR3_13 hR1)) (sim_L (ztg_e hAV.1.2) (sim_L (c_num ht1 hMV hAV (v := jv cn ca F c) (fun f hf => ⟨v1 f (by omega), (jb f (by omega)).2⟩)) (sim_L y2 ?_)))))
    refine sim_R e12 (sim_R e2 (sim_R (m_ansOf sW2 (by omega) hMW (v := jv cn ca F c) (fun f hf => ⟨v2 f (by omega), (jb f (by omega)).1, (jb f (by omega)).2.2⟩)) (sim_R (m_ansOf sV2 (by omega) hMV (v := jv cn ca F c) (fun f hf => ⟨v2 f (by omega), (jb f (by omega)).2⟩)) ?_)))
    rw [w32_b2i, w32_b2i]
    -- going on
    have sR1 : JD L t1 F N cn ca hs := JD_k hR f8 hD (fun g _ => by rw [s1.1.2.2.1]) (fun _ _ _ _ _ => by rw [s1.1.2.2.1]) (fun x r e h1 h2 => s1.2 x (by omega))
    have sM1 : JMt w2 F N cn ca := JMt_k hM (g2.1 65 (by simp)) (g2.2 63 (by simp)) (g2.2 64 (by simp))
    have i25 : zI t1 (L.1 115) 125 = (F : Int) := by rw [s1.1.2.2.1]; exact h25
    have i68 : w2.1 68 = 1 := by rw [g2.1 68 (by simp)]; exact h68
    have stay : sim (f3_compare_l24 G (some (L.1 115)) (some (L.1 (300 + a))) (some (L.1 (300 + b))) n ((c : Int) + 1) t1) (m5_compare_l63 a b k ((c : Int) + 1) w2) (fun t' w' => RC G L t' w' ∧ w'.1 68 = 1) := ih (c + 1, t1) (c + 1, w2) ⟨rfl, by show c + 1 ≤ N; omega, ht1, sR1, sM1, i25, i68, sW2, sV2, hw11⟩ (by show N - (c + 1) < N - c; omega)
    have side : ∀ s : Nat, s < 2 → sim (f3_compare_b95 G (f3_compare_l24 G (some (L.1 115)) (some (L.1 (300 + a))) (some (L.1 (300 + b))) n) (some (L.1 115)) (some (L.1 (300 + a))) (some (L.1 (300 + b))) (c : Int) (some (L.1 115)) (s : Int) t1) (m5_compare_b125 (m5_compare_l63 a b k) a b (c : Int) (s : Int) w2) (fun t' w' => RC G L t' w' ∧ w'.1 68 = 1) := by
      intro s hs2
      have h12' : w2.2 12 a = (F : Int) := by
        rw [← f0, ← sW2]
        unfold slc
        rw [if_pos (by decide)]
        show w2.2 12 a = w2.2 12 (1 * a + 0)
        rw [Nat.one_mul, Nat.add_zero]
      obtain ⟨t3, w3, q1, q2, q3, q4, q5, q6⟩ := o_keep ht1 (a := a) (F := F) (s := s) (v := jv cn ca F c) f8 hs2 (by omega) h12' sR1.1 i25 i68 v1 v2 (v2 := b) (v3 := c)
      unfold f3_compare_b95
      refine sim_L (ztg_e (rT115 hR1)) (sim_L q1 ?_)
      rw [q2]
      exact ih (c + 1, t3) (c + 1, w3) ⟨rfl, by show c + 1 ≤ N; omega, q3, JD_k hR1 f8 sR1 (fun g _ => by rw [q4]) (fun _ _ _ _ _ => by rw [q4]) (fun x r e h1 h2 => q5 x (by omega) (by omega)), JMt_k sM1 (q6.1 65 (by simp)) (q6.2 63 (by simp)) (q6.2 64 (by simp)), by rw [q4]; exact i25, by rw [q6.1 68 (by simp)]; exact i68, by rw [← sW2]; exact slc_of (fun j h1 h2 => q6.2 j (by simp; omega)), by rw [← sV2]; exact slc_of (fun j h1 h2 => q6.2 j (by simp; omega)), by rw [q6.1 11 (by simp)]; exact hw11⟩ (by show N - (c + 1) < N - c; omega)
    have side0 := side 0 (by omega)
    have side1 := side 1 (by omega)
    have none1 : ∀ kh, m5_compare_b125 kh (a : Int) (b : Int) (c : Int) (-1) w2 = kh ((c : Int) + 1) w2 := fun kh => by unfold m5_compare_b125; rw [if_pos (by decide)]
    cases hx : anV W (jv cn ca F c) <;> cases hy : anV V (jv cn ca F c)
    · refine sim_posL rfl (sim_posR rfl ?_)
      unfold m5_compare_b110 m5_compare_b124
      exact sim_posR (by decide) (by rw [none1]; exact stay)
    · refine sim_negL (by decide) (sim_posL (by decide) (sim_posR rfl ?_))
      unfold m5_compare_b110
      exact sim_negR (by decide) (sim_posR (by decide) side1)
    · refine sim_negL (by decide) (sim_negL (by decide) (sim_negR (by decide) (sim_posR rfl side0)))
    · refine sim_posL rfl (sim_negR (by decide) (sim_negR (by decide) ?_))
      unfold m5_compare_b110 m5_compare_b124
      exact sim_negR (by decide) (sim_negR (by decide) (by rw [none1]; exact stay))) NN NN (0, t) (0, w) ⟨rfl, Nat.zero_le _, h, hD, hM, h25, h68, hW, hV, rfl⟩ (NN_gt (by show N - 0 < 100000; omega)) (NN_gt (by show N - 0 < 100000; omega))
  exact key
theorem o_compare {G : CG} {L : Ly} {u : Sg} {m : Mu} (h : RC G L u m) (a b : Int) (ha : w32 a = a) (hb : w32 b = b) : sim (f0_compare G (some (L.1 3)) a b u) (m5_compare a b m) (aft G L) := by
  have hR := h.1
  have w12 := h.2.2.2.2.1.2.1
  unfold f0_compare m5_compare
  refine sim_L (ztg_e (rT3 hR)) (sim_L (c_isW h ha) (sim_R (m_isW h ha) (sim_test (fun _ => sim_some ⟨rfl, h⟩) (fun k1 => ?_))))
  refine sim_L (ztg_e (rT3 hR)) (sim_L (c_isW h hb) (sim_R (m_isW h hb) (sim_test (fun _ => sim_some ⟨rfl, h⟩) (fun k2 => ?_))))
  obtain ⟨x, rfl, x1, x12, x2, hMW, hAW⟩ := wo_at h k1
  obtain ⟨y, rfl, y1, y12, y2, hMV, hAV⟩ := wo_at h k2
  obtain ⟨W, hW⟩ : ∃ W, slc m x = W := ⟨_, rfl⟩
  obtain ⟨V, hV⟩ : ∃ V, slc m y = V := ⟨_, rfl⟩
  rw [hW] at hMW hAW
  rw [hV] at hMV hAV
  refine sim_L (ztg_e (rT3 hR)) (sim_L (c_the h x1 x2) (sim_L (ztg_e (rT3 hR)) (sim_L (c_the h y1 y2) (sim_L (ztg_e hAW.1.2) (sim_L (c_comp hMW hMV hAW hAV) (sim_R (m_comp hW hV (by omega) (by omega) hMW hMV (nmO_of hAW) (nmO_of hAV)) ?_))))))
  rw [w32_b2i]
  by_cases hc : cmpP W V
  · have hcB : cmpB W V = true := by unfold cmpB; exact @decide_eq_true _ (Classical.propDecidable _) hc
    rw [hcB]
    refine sim_negL (by decide) (sim_negR (by decide) ?_)
    obtain ⟨hF, hlk⟩ := hc
    obtain ⟨F, hFe⟩ : ∃ F, nF W = F := ⟨_, rfl⟩
    have f8 : F ≤ 8 := by rw [← hFe]; exact (nF_e hMW).2
    have v33 := hMV.1.2.2.2.2.2.2.2.2
    have hXB : XB G L u W (some (L.1 (300 + y))) (fun f x => ∃ i : Nat, (i : Int) < V 33 0 ∧ thN f (nd V i) x) (thL V) := Or.inr ⟨_, V, rfl, WA_Pt hAV, WM_sg hMV, fun f hf => (hlk f hf).2.1.symm, fun _ _ => Iff.rfl, fun f x ⟨i, i1, i2⟩ => thL_mem (by omega) i2⟩
    have hXC : XC G L u W none (fun _ _ => False) [] := Or.inl ⟨rfl, fun _ _ z => z⟩
    obtain ⟨cn, ca, u', e1, ⟨s1, -⟩, i21, i22, hI⟩ := c_parted h hMW hAW hXB hXC (by rw [thL_len]; exact Nat.le_refl _)
    obtain ⟨ns, as, m', e2, f2, i65, hB⟩ := m_join hW hV (by omega) (by omega) (nF_e hMW).1 (by omega) (fun f hf => stO_of hMW hf) (fun f hf => stO_of hMV (by omega))
    rw [hFe] at e1 e2 i21 i22 i65 hI hB
    -- the same starts
    have heq : ∀ f, f < F → ns f = cn f ∧ ∀ k, k < cn f → as f k = ca f k := by
      intro f hf
      obtain ⟨-, hs, -⟩ := hI f hf
      obtain ⟨⟨-, -, hs2, -⟩, -⟩ := hB f hf
      obtain ⟨-, l14, l17, l18, -⟩ := hlk f (by omega)
      have hW2 := hMW.2.2.2.2.2.2.2.2.2.2.1 f (by omega)
      have hV2 := hMV.2.2.2.2.2.2.2.2.2.2.1 f (by omega)
      have hs3 : SRT (ns f) (as f) (stX (W 14 f) (W 17 f) (W 18 f) (fun x => ((∃ i : Nat, (i : Int) < W 33 0 ∧ thN f (nd W i) x) ∨ ∃ i : Nat, (i : Int) < V 33 0 ∧ thN f (nd V i) x) ∨ False)) := by
        refine SRT_cg hs2 (fun _ _ => rfl) (fun x => ?_)
        show (∃ k, k < nS W f ∧ W 38 (608 * f + k) = x) ∨ (∃ k, k < nS V f ∧ V 38 (608 * f + k) = x) ↔ _
        rw [← hW2 x, ← hV2 x]
        unfold thr
        rw [← l14, ← l17, ← l18]
        unfold stX
        constructor
        · rintro ((z | z) | (z | z))
          · exact Or.inl z
          · exact Or.inr ⟨z.1, z.2.1, Or.inl (Or.inl z.2.2)⟩
          · exact Or.inl z
          · exact Or.inr ⟨z.1, z.2.1, Or.inl (Or.inr z.2.2)⟩
        · rintro (z | ⟨z1, z2, (z3 | z3) | z3⟩)
          · exact Or.inl (Or.inl z)
          · exact Or.inl (Or.inr ⟨z1, z2, z3⟩)
          · exact Or.inr (Or.inr ⟨z1, z2, z3⟩)
          · exact z3.elim
      obtain ⟨q1, q2⟩ := SRT_uniq hs3 hs
      exact ⟨q1, fun k hk => q2 k (by omega)⟩
    have hj : jA ns F = jA cn F := by
      have : ∀ g, g ≤ F → jA ns g = jA cn g := by
        intro g
        induction g with
        | zero => intro _; rfl
        | succ g ih => intro hg; simp only [jA]; rw [ih (by omega), (heq g (by omega)).1]
      exact this F (Nat.le_refl _)
    have hc1 : ∀ f, f < F → 1 ≤ cn f ∧ cn f ≤ 1219 := fun f hf => ⟨(hI f hf).2.2.1, (hI f hf).2.2.2.1⟩
    obtain ⟨jp1, jp2⟩ := jA_P (ns := cn) F (fun g hg => (hc1 g hg).1)
    have h1 := RC_scr h s1
    have hR1 := h1.1
    refine sim_L (gfR_v (rT3 hR) (rR3_15 hR)) (sim_L (ztg_e (rT3 hR)) (sim_L (c_the h x1 x2) (sim_L (ztg_e (rT3 hR)) (sim_L (c_the h y1 y2) (sim_L (ztg_e (rT115 hR)) (sim_L e1 (sim_R e2 ?_)))))))
    dsimp only
    have hms : mfr MS0 MA0 m m' := mfr_up f2 (by decide) (by decide)
    have h1m := RC_msc h1 hms
    rw [hj]
    by_cases hz : jP cn F ≤ 20000
    · have hja : jA cn F ≤ 20000 := by
        by_cases q : jA cn F ≤ 1000000
        · rw [jp1 q]; exact hz
        · have := jp2 (by omega); omega
      have hjP : jA cn F = jP cn F := jp1 (by omega)
      rw [if_pos hz, if_pos hja]
      refine sim_negL (by decide) (sim_negR (by decide) ?_)
      have hFW2 : zI u' (L.1 115) 121 = (F : Int) := i21
      refine sim_L (gfR_v (rT3 hR1) (rR3_15 hR1)) (sim_L (ztg_e (rT3 hR1)) (sim_L (c_the h1 x1 x2) (sim_L (ztg_e (rT3 hR1)) (sim_L (c_the h1 y1 y2) (sim_L (ztg_e (rT115 hR1)) (sim_pairL ?_))))))
      unfold f3_compare
      have l148 := rL148 hR1
      -- the class clears
      obtain ⟨t, ht⟩ : ∃ t, t = zsI (zsA (zsA u' (L.1 148) 0 (nz 0)) (L.1 148) 1 (nz 0)) (L.1 115) 125 (F : Int) := ⟨_, rfl⟩
      obtain ⟨w, hw⟩ : ∃ w, w = ms (ma (ma m' 67 0 (-1)) 67 1 (-1)) 68 1 := ⟨_, rfl⟩
      have ewr : wr L u' t (fun r => r = 115 ∨ r = 147 ∨ r = 148 ∨ r = 149) := by
        rw [ht]; exact wr_I (wr_A (wr_A wr_rf (by rw [rC148 hR1]; omega)) (by rw [rC148 hR1]; omega)) (by rw [rC115 hR1]; omega)
      have frw : mfr [68, 70] [66, 67, 69] m' w := by rw [hw]; exact mfr_ms (mfr_ma (mfr_ma mfr_rf (by simp)) (by simp)) (by simp)
      have a148 : ∀ s, s < 2 → zA t (L.1 148) s = 0 := fun s hs => by
        rw [ht, zsI_A, zsA_A, zsA_A]
        rcases (show s = 0 ∨ s = 1 by omega) with rfl | rfl
        · rw [if_neg (by simp), if_pos ⟨rfl, rfl⟩]; decide
        · rw [if_pos ⟨rfl, rfl⟩]; decide
      have a67 : ∀ s, s < 2 → w.2 67 s = -1 := fun s hs => by
        rw [hw, ms_2, ma_s, ma_s]
        rcases (show s = 0 ∨ s = 1 by omega) with rfl | rfl
        · rw [if_neg (by simp), if_pos rfl]
        · rw [if_pos rfl]
      have w68 : w.1 68 = 1 := by rw [hw, ms_1, if_pos rfl]
      have iO : ∀ g, g ≠ 125 → zI t (L.1 115) g = zI u' (L.1 115) g := fun g hg => by rw [ht, zsI_I, if_neg (fun z => hg z.2)]; rfl
      have i25 : zI t (L.1 115) 125 = (F : Int) := by rw [ht, zsI_I, if_pos ⟨rfl, rfl⟩]
      have hrc : RC G L t w := by
        obtain ⟨-, -, -, j4⟩ := id h1m.2.2.2.1
        have e49 : zA t (L.1 149) = zA u' (L.1 149) := by rw [ht, zsI_A, zA_ne (rne (rC149 hR1) (rC148 hR1) (by decide)), zA_ne (rne (rC149 hR1) (rC148 hR1) (by decide))]
        refine RC_J h1m ewr frw ⟨fun s hs => ⟨Or.inl (a148 s hs), ⟨fun z => ?_, fun z => ?_⟩, fun z => ?_⟩, Or.inr w68, fun s hs => ?_, ?_⟩
        · rw [a148 s hs] at z; omega
        · rw [a67 s hs] at z; omega
        · rw [a148 s hs] at z; omega
        · rw [a67 s hs]; omega
        · rw [iO 127 (by decide), iO 128 (by decide), e49, show w.1 70 = m'.1 70 by rw [hw, ms_1, if_neg (by decide), ma_1, ma_1], show w.2 69 = m'.2 69 by rw [hw, ms_2, ma_o (by decide), ma_o (by decide)]]
          exact j4
      have e12W : slc w x = W := by rw [← hW, ← slc_of (m := m) (m' := m') (fun j h1 h2 => f2.2 j (by simp; omega))]; exact slc_of (fun j h1 h2 => frw.2 j (by simp; omega))
      have e12V : slc w y = V := by rw [← hV, ← slc_of (m := m) (m' := m') (fun j h1 h2 => f2.2 j (by simp; omega))]; exact slc_of (fun j h1 h2 => frw.2 j (by simp; omega))
      have w11 : w.1 11 = m.1 11 := by rw [frw.1 11 (by simp), f2.1 11 (by simp)]
      have hJD : JD L t F (jP cn F) cn ca (fun f => W 18 f) := ⟨by rw [iO 121 (by decide)]; exact i21, by rw [iO 122 (by decide), i22, Nat.min_eq_left (by omega)], fun f hf => by
        obtain ⟨⟨t1, t2, t3⟩, ⟨r1, r2, r3, r4⟩, rr⟩ := rSt hR1 (f := f) (by omega)
        obtain ⟨b1, b2, b3⟩ := (hI f hf).1
        refine ⟨?_, ?_, fun k hk => ?_⟩
        · rw [ht, zI_ne (rne t2 (rC115 hR1) (by omega))]; exact b1
        · rw [ht, zI_ne (rne t2 (rC115 hR1) (by omega))]; exact b2
        · rw [ht, zsI_A, zA_ne (rne r3 (rC148 hR1) (by omega)), zA_ne (rne r3 (rC148 hR1) (by omega))]; exact b3 k hk⟩
      have hJM : JMt w F (jP cn F) cn ca := by
        refine ⟨?_, fun f hf => ?_⟩
        · rw [frw.1 65 (by simp), i65, hj, if_pos (by omega), hjP]
        · obtain ⟨⟨b1, b2, -⟩, -⟩ := hB f hf
          obtain ⟨q1, q2⟩ := heq f hf
          rw [frw.2 64 (by simp), frw.2 63 (by simp)]
          exact ⟨by rw [b1, q1], fun j hj => by rw [b2 j (by omega), q2 j hj]⟩
      refine sim_L (gfR_v (rT115 hR1) (rR115_124 hR1)) (sim_L (asI_e 0 (rT148 hR1) (rG148 hR1) rfl (by omega) (by omega)) (sim_L (gfR_v (rT115 hR1) (rR115_124 hR1)) (sim_L (asI_e 1 (rT148 hR1) (rG148 hR1) rfl (by show 1 < zL u' _; omega) (by show zL u' _ ≤ _; omega)) (sim_L (gfI_v (rT115 hR1) i21) (sim_L (pfI_e (rT115 hR1) (rG115 hR1)) ?_)))))
      refine sim_mast 0 rfl (by omega) (by omega) (sim_mast 1 rfl (by omega) (by omega) (sim_S ?_))
      rw [← ht, ← hw]
      refine sim_bind (o_compL hrc x1 (by rw [w11]; exact x2) y1 (by rw [w11]; exact y2) (by rw [e12W]; exact hFe) (by rw [e12V, ← hF]; exact hFe) hc1 (fun f hf k hk => ?_) hz hJD hJM i25 w68) ?_
      · rw [e12W, e12V, ← (hlk f (by omega)).2.2.1]
        obtain ⟨-, hs, -, -, hb⟩ := hI f hf
        have := stX_lo ((hs.2 _).mpr ⟨k, hk, rfl⟩)
        exact ⟨this, this, (hb k hk).2⟩
      · rintro t2 w2 ⟨h2, w268⟩
        have hR2 := h2.1
        have l148' := rL148 hR2
        obtain ⟨j1, -, j3, -⟩ := id h2.2.2.2.1
        obtain ⟨p1, p2, -⟩ := j1 0 (by omega)
        obtain ⟨q1, q2, -⟩ := j1 1 (by omega)
        have b0 := j3 0 (by omega)
        have b1 := j3 1 (by omega)
        refine sim_L (gfR_v (rT115 hR2) (rR115_124 hR2)) (sim_L (alI_e 0 (rT148 hR2) rfl (by omega) (by omega)) (sim_mald 0 rfl (by omega) (by omega) ?_))
        rw [w32_id (x := w2.2 67 0) (by omega) (by omega)]
        have fin : ∀ s0 : Int, ∃ r, f3_compare_b118 G (some (L.1 115)) s0 t2 = some (r, t2) ∧ r = s0 + (if zA t2 (L.1 148) 1 = 1 then 2 else 0) := by
          intro s0
          unfold f3_compare_b118
          rw [gfR_v (rT115 hR2) (rR115_124 hR2), Option.bind_some, show alI t2 3 (some (L.1 148)) 1 = some (zA t2 (L.1 148) 1) from alI_e 1 (rT148 hR2) rfl (by omega) (by omega), Option.bind_some]
          rcases q1 with z | z
          · rw [z, if_pos (by decide), if_neg (by decide)]; exact ⟨_, rfl, rfl⟩
          · rw [z, if_neg (by decide), if_pos rfl]; exact ⟨_, rfl, rfl⟩
        have nb1 : (zA t2 (L.1 148) 1 = 1) ↔ 0 ≤ w2.2 67 1 := ⟨fun z => (q2.mp z).2, fun z => q2.mpr ⟨w268, z⟩⟩
        rcases p1 with z | z
        · have hneg : ¬ 0 ≤ w2.2 67 0 := fun y => by have := p2.mpr ⟨w268, y⟩; omega
          rw [z]
          refine sim_posL (by decide) (sim_negR hneg ?_)
          obtain ⟨r, e, er⟩ := fin 0
          rw [e]
          refine sim_mald 1 rfl (by omega) (by omega) ?_
          rw [w32_id (x := w2.2 67 1) (by omega) (by omega)]
          by_cases y : 0 ≤ w2.2 67 1
          · rw [if_pos y, er, if_pos (nb1.mpr y)]; exact sim_some ⟨rfl, h2⟩
          · rw [if_neg y, er, if_neg (fun q => y (nb1.mp q))]; exact sim_some ⟨rfl, h2⟩
        · have hpos : 0 ≤ w2.2 67 0 := (p2.mp z).2
          rw [z]
          refine sim_negL (by decide) (sim_posR hpos ?_)
          obtain ⟨r, e, er⟩ := fin 1
          rw [e]
          refine sim_mald 1 rfl (by omega) (by omega) ?_
          rw [w32_id (x := w2.2 67 1) (by omega) (by omega)]
          by_cases y : 0 ≤ w2.2 67 1
          · rw [if_pos y, er, if_pos (nb1.mpr y)]; exact sim_some ⟨rfl, h2⟩
          · rw [if_neg y, er, if_neg (fun q => y (nb1.mp q))]; exact sim_some ⟨rfl, h2⟩
    · have hja : ¬ jA cn F ≤ 20000 := fun q => hz (by rw [← jp1 (by omega)]; exact q)
      rw [if_neg hz, if_neg hja]
      exact sim_posL (by decide) (sim_posR (by decide) (sim_some ⟨rfl, h1m⟩))
  · have hcB : cmpB W V = false := by unfold cmpB; exact @decide_eq_false _ (Classical.propDecidable _) hc
    rw [hcB]
    exact sim_posL (by decide) (sim_posR (by decide) (sim_some ⟨rfl, h⟩))

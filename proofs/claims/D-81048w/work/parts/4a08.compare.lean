/-! compare: what it leaves -/
theorem RC_J {G : CG} {L : Ly} {u u' : Sg} {m m' : Mu} (h : RC G L u m) (k : wr L u u' (fun r => r = 115 ∨ r = 147 ∨ r = 148 ∨ r = 149)) (q : mfr [68, 70] [66, 67, 69] m m') (hJ' : RJ L u' m') : RC G L u' m' := by
  obtain ⟨hR, hS, hA, hJ, hW, hE, hP, hK⟩ := h
  have sm : ∀ {a r : Nat}, L.2 a = r → r ≠ 115 → r ≠ 147 → r ≠ 148 → r ≠ 149 → sam u u' a := fun e h1 h2 h3 h4 => wr_sam k (by rw [e]; omega)
  have aA : ∀ {a r : Nat}, L.2 a = r → r ≠ 115 → r ≠ 147 → r ≠ 148 → r ≠ 149 → zA u' a = zA u a := fun e h1 h2 h3 h4 => (sm e h1 h2 h3 h4).2.2.2.2.1
  have hg : gro u u' := ⟨by rw [k.2.2.1]; exact Nat.le_refl _, fun x _ => ⟨by rw [k.1], by rw [k.2.1]⟩⟩
  have hf : frz L L u u' := ⟨hg, fun a ha => ⟨ha, sm ha (by omega) (by omega) (by omega) (by omega)⟩⟩
  have ml : ∀ {r rb n : Nat} {el : Nat → Nat}, (r ≠ 115 ∧ r ≠ 147 ∧ r ≠ 148 ∧ r ≠ 149) → (rb ≠ 115 ∧ rb ≠ 147 ∧ rb ≠ 148 ∧ rb ≠ 149) → ML G u L r rb n el → ML G u' L r rb n el := by
    intro r rb n el h1 h2 q
    refine ML_k hg (sm q.2.2.1 h1.1 h1.2.1 h1.2.2.1 h1.2.2.2) ?_ q
    by_cases hz : 0 < zL u (L.1 rb)
    · exact sm (q.2.2.2.1 hz) h2.1 h2.2.1 h2.2.2.1 h2.2.2.2
    · obtain ⟨b, e1, e2, -⟩ := hR.2.2.2.2.2.1.2.1
      have : some b = some (L.1 rb) := by rw [← e1]; exact q.2.1.2.1 (by omega)
      cases this
      exact sm (hR.2.2.2.1 _ e2) (by decide) (by decide) (by decide) (by decide)
  have hR' : Rt G u' L := ⟨fun q hq => by rw [k.1, k.2.1]; exact hR.1 q hq, fun q hq => by rw [k.2.2.2.1]; exact hR.2.1 q hq, by rw [k.2.2.1]; exact hR.2.2.1, hR.2.2.2.1, by rw [k.2.2.1]; exact hR.2.2.2.2.1, St_k hR.2.2.2.1 hf hR.2.2.2.2.2.1, LF_k hf hR.2.2.2.2.2.2⟩
  have s : ∀ j, j ≠ 68 → j ≠ 70 → m'.1 j = m.1 j := fun j h1 h2 => q.1 j (by simp; omega)
  have t : ∀ j, j ≠ 66 → j ≠ 67 → j ≠ 69 → m'.2 j = m.2 j := fun j h1 h2 h3 => q.2 j (by simp; omega)
  have z : ∀ w, slc m' w = slc m w := fun w => slc_of (fun j h1 h2 => t j (by omega) (by omega) (by omega))
  have s3 : sam u u' (L.1 3) := sm (rC3 hR) (by omega) (by omega) (by omega) (by omega)
  refine ⟨hR', ?_, ?_, hJ', ?_, ?_, ?_, ?_⟩
  · refine RS_mm (m := m) (fun k hk => s k (by rintro rfl; revert hk; decide) (by rintro rfl; revert hk; decide)) ?_
    unfold RS; rw [s3.2.2.1]; exact hS
  · refine RA_mm (m := m) (fun k hk => s k (by rintro rfl; revert hk; decide) (by rintro rfl; revert hk; decide)) (fun k hk => t k (by rintro rfl; revert hk; decide) (by rintro rfl; revert hk; decide) (by rintro rfl; revert hk; decide)) ?_
    unfold RA
    rw [aA (rC101 hR) (by omega) (by omega) (by omega) (by omega), aA (rC109 hR) (by omega) (by omega) (by omega) (by omega), aA (rC110 hR) (by omega) (by omega) (by omega) (by omega), aA (rC111 hR) (by omega) (by omega) (by omega) (by omega), aA (rC118 hR) (by omega) (by omega) (by omega) (by omega), aA (rC119 hR) (by omega) (by omega) (by omega) (by omega), aA (rC120 hR) (by omega) (by omega) (by omega) (by omega), aA (rC121 hR) (by omega) (by omega) (by omega) (by omega), aA (rC125 hR) (by omega) (by omega) (by omega) (by omega), aA (rC127 hR) (by omega) (by omega) (by omega) (by omega), aA (rC128 hR) (by omega) (by omega) (by omega) (by omega), aA (rC100 hR) (by omega) (by omega) (by omega) (by omega)]
    exact hA
  · refine RW_mm (m := m) (s 11 (by omega) (by omega)) (fun w _ _ => z w) ?_
    obtain ⟨a1, a2, a3, a4⟩ := hW
    exact ⟨a1, a2, ml (by omega) (by omega) a3, fun w h1 h2 => ⟨(a4 w h1 h2).1, WA_k hf (a4 w h1 h2).2⟩⟩
  · refine RE_mm (m := m) (s 11 (by omega) (by omega)) (s 71 (by omega) (by omega)) (fun k hk => t k (by rintro rfl; revert hk; decide) (by rintro rfl; revert hk; decide) (by rintro rfl; revert hk; decide)) (fun w _ _ => z w) ?_
    obtain ⟨a1, a2, a3, a4⟩ := hE
    refine ⟨a1, a2, ml (by omega) (by omega) a3, fun e h1 h2 => ?_⟩
    obtain ⟨b1, b2, b3, b4, b5, l, b6, b7, b8⟩ := a4 e h1 h2
    obtain ⟨p1, p2, p3, p4, p5, p6⟩ := (hf.2 _ b3).2
    refine ⟨b1, b2, b3, by rw [p1]; exact b4, by rw [p4]; exact b5, l, by rw [p4]; exact b6, LF_k hf b7, fun f hf => ⟨KA_k (fun j hj => ?_) (b8 f hf).1, (b8 f hf).2⟩⟩
    have q := (b8 f hf).1
    have hr : L.2 (L.1 (1000 + 64 * e + 8 * f + j)) = 1000 + 64 * e + 8 * f + j := by
      rcases (show j = 0 ∨ j = 1 ∨ j = 2 by omega) with rfl | rfl | rfl
      · exact q.2.2.1
      · exact (q.2.2.2.2.2.2.1 0 (by omega)).2.2.2.2
      · exact (q.2.2.2.2.2.2.1 1 (by omega)).2.2.2.2
    exact sm hr (by omega) (by omega) (by omega) (by omega)
  · refine RP_mm (m := m) (by rw [s 11 (by omega) (by omega)]; exact Int.le_refl _) (s 81 (by omega) (by omega)) (fun k hk => t k (by rintro rfl; revert hk; decide) (by rintro rfl; revert hk; decide) (by rintro rfl; revert hk; decide)) ?_
    obtain ⟨a1, a2, a3, a4⟩ := hP
    refine ⟨a1, a2, ml (by omega) (by omega) a3, fun p h1 h2 => ?_⟩
    obtain ⟨b1, b2, b3, b4, b5, b6, b7, b8⟩ := a4 p h1 h2
    obtain ⟨p1, p2, p3, p4, p5, p6⟩ := sm b3 (by omega) (by omega) (by omega) (by omega)
    refine ⟨by rw [p1]; exact b1, b2, b3, by rw [p3]; exact b4, b5, b6, fun j hj => ?_, fun k hk => ⟨fun j hj => ?_, (b8 k hk).2⟩⟩
    · obtain ⟨c1, c2, c3, c4, c5⟩ := b7 j hj
      have := sm c5 (by omega) (by omega) (by omega) (by omega)
      exact ⟨by rw [p4]; exact c1, by rw [this.1]; exact c2, by rw [this.2.1]; exact c3, c4, c5⟩
    · obtain ⟨c1, c2, c3, c4, c5⟩ := b7 j hj
      have := sm c5 (by omega) (by omega) (by omega) (by omega)
      rw [this.2.2.2.2.1]; exact (b8 k hk).1 j hj
  · refine RK_mm (m := m) (s 87 (by omega) (by omega)) (by rw [s 81 (by omega) (by omega)]; exact Int.le_refl _) (by rw [s 71 (by omega) (by omega)]; exact Int.le_refl _) (fun k hk => t k (by rintro rfl; revert hk; decide) (by rintro rfl; revert hk; decide) (by rintro rfl; revert hk; decide)) ?_
    obtain ⟨a1, a2, a3, a4, a9⟩ := hK
    refine ⟨a1, a2, ml (by omega) (by omega) a3, fun c h1 h2 => ?_, a9⟩
    obtain ⟨b1, b2, b3, b4, b5, b6, b7, b8, b9, b10, b11, b12, b13, b14, b15, b16, b17, b18, b19, b20⟩ := a4 c h1 h2
    obtain ⟨p1, p2, p3, p4, p5, p6⟩ := sm b3 (by omega) (by omega) (by omega) (by omega)
    unfold KE
    rw [p1, p3, p4]
    refine ⟨b1, b2, b3, b4, b5, b6, b7, b8, b9, b10, b11, b12, b13, b14, b15, b16, KA_k (fun j hj => ?_) b17, b18, b19, b20⟩
    have hr : L.2 (L.1 (4001 + 8 * c + j)) = 4001 + 8 * c + j := by
      rcases (show j = 0 ∨ j = 1 ∨ j = 2 by omega) with rfl | rfl | rfl
      · exact b17.2.2.1
      · exact (b17.2.2.2.2.2.2.1 0 (by omega)).2.2.2.2
      · exact (b17.2.2.2.2.2.2.1 1 (by omega)).2.2.2.2
    exact sm hr (by omega) (by omega) (by omega) (by omega)
/-- what is kept of a side -/
theorem c_keep {G : CG} {L : Ly} {u : Sg} {m : Mu} (h : RC G L u m) {F s : Nat} {v : Nat → Int} (hF : F ≤ 8) (hs : s < 2) (h21 : zI u (L.1 115) 121 = (F : Int)) (hv : ∀ f, f < F → zA u (L.1 140) f = v f) (h0 : zA u (L.1 148) s = 0) : ∃ u', f3_keep G (some (L.1 115)) s u = some u' ∧ (zT u' = zT u ∧ zL u' = zL u ∧ zN u' = zN u ∧ zR u' = zR u ∧ zB u' = zB u ∧ zI u' = zI u) ∧ (∀ a, L.2 a ≠ 147 → L.2 a ≠ 148 → zA u' a = zA u a) ∧ (∀ i, zA u' (L.1 148) i = if i = s then 1 else zA u (L.1 148) i) ∧ ∀ i, zA u' (L.1 147) i = if 8 * s ≤ i ∧ i < 8 * s + F then v (i - 8 * s) else zA u (L.1 147) i := by
  have hR := h.1
  have l148 := rL148 hR
  have l147 := rL147 hR
  have l140 := rL140 hR
  have key := loop_ind (fun q (w : Nat × Sg) => f3_keep_l19 G (some (L.1 115)) s q (w.1 : Int) w.2) (fun w => F - w.1) (fun w => w.1 ≤ F ∧ (zT w.2 = zT u ∧ zL w.2 = zL u ∧ zN w.2 = zN u ∧ zR w.2 = zR u ∧ zB w.2 = zB u ∧ zI w.2 = zI u) ∧ (∀ a, L.2 a ≠ 147 → L.2 a ≠ 148 → zA w.2 a = zA u a) ∧ (∀ i, zA w.2 (L.1 148) i = if i = s then 1 else zA u (L.1 148) i) ∧ ∀ i, zA w.2 (L.1 147) i = if 8 * s ≤ i ∧ i < 8 * s + w.1 then v (i - 8 * s) else zA u (L.1 147) i) (fun _ r => (zT r = zT u ∧ zL r = zL u ∧ zN r = zN u ∧ zR r = zR u ∧ zB r = zB u ∧ zI r = zI u) ∧ (∀ a, L.2 a ≠ 147 → L.2 a ≠ 148 → zA r a = zA u a) ∧ (∀ i, zA r (L.1 148) i = if i = s then 1 else zA u (L.1 148) i) ∧ ∀ i, zA r (L.1 147) i = if 8 * s ≤ i ∧ i < 8 * s + F then v (i - 8 * s) else zA u (L.1 147) i) (by
    rintro q ⟨f, t⟩ ⟨hf, ⟨e1, e2, e3, e4, e5, e6⟩, h1, h2, h3⟩ ih
    dsimp only at hf e1 e2 e3 e4 e5 e6 h1 h2 h3 ⊢
    show ok (f3_keep_l19 G (some (L.1 115)) s (q + 1) (f : Int) t) _
    unfold f3_keep_l19
    have x4 : zT t (L.1 115) = 4 := by rw [e1]; exact rT115 hR
    refine ok_eq (gfI_v (r := (F : Int)) x4 (by rw [e6]; exact h21)) ?_
    rw [w32_n (by omega), w32_n (by omega)]
    refine ok_ite (fun hz => ok_some ⟨⟨e1, e2, e3, e4, e5, e6⟩, h1, h2, by rw [show F = f by omega]; exact h3⟩) (fun hz => ?_)
    refine ok_eq (gfR_v (r := some (L.1 147)) x4 (by rw [e4]; exact rR115_123 hR)) (ok_eq (gfR_v (r := some (L.1 3)) x4 (by rw [e4]; exact rR115_129 hR)) (ok_eq (gfR_v (r := some (L.1 113)) (by rw [e1]; exact rT3 hR) (by rw [e4]; exact rR3_13 hR)) (ok_eq (gfR_v (r := some (L.1 140)) (by rw [e1]; exact rT113 hR) (by rw [e4]; exact rR113_40 hR)) (ok_eq (alI_e f (by rw [e1]; exact rT140 hR) rfl (by rw [e2]; omega) (by rw [e2]; omega)) (ok_eq (asI_e (8 * s + f) (by rw [e1]; exact rT147 hR) (rG147 hR) (by omega) (by rw [e2]; omega) (by rw [e2]; omega)) ?_)))))
    rw [h1 _ (by rw [rC140 hR]; decide) (by rw [rC140 hR]; decide), hv f (by omega)]
    refine ih (f + 1, zsA t (L.1 147) (8 * s + f) (v f)) ⟨by show f + 1 ≤ F; omega, ⟨e1, e2, e3, e4, e5, e6⟩, fun a a1 a2 => ?_, fun i => ?_, fun i => ?_⟩ (by show F - (f + 1) < F - f; omega)
    · dsimp only
      rw [zA_ne (fun q => a1 (by rw [q]; exact rC147 hR))]; exact h1 a a1 a2
    · dsimp only
      rw [zA_ne (rne (rC148 hR) (rC147 hR) (by decide))]; exact h2 i
    · dsimp only
      rw [zsA_A]
      by_cases z : i = 8 * s + f
      · rw [if_pos ⟨rfl, z⟩, if_pos (by omega), show i - 8 * s = f by omega]
      · rw [if_neg (fun y => z y.2), h3 i]
        by_cases z2 : 8 * s ≤ i ∧ i < 8 * s + f
        · rw [if_pos z2, if_pos (by omega)]
        · rw [if_neg z2, if_neg (by omega)]) NN (0, zsA u (L.1 148) s (nz 1)) ⟨Nat.zero_le _, ⟨rfl, rfl, rfl, rfl, rfl, rfl⟩, fun a a1 a2 => zA_ne (fun q => a2 (by rw [q]; exact rC148 hR)), fun i => by
        dsimp only
        rw [zsA_A]
        by_cases z : i = s
        · rw [if_pos ⟨rfl, z⟩, if_pos z]; decide
        · rw [if_neg (fun y => z y.2), if_neg z], fun i => by
        dsimp only
        rw [zA_ne (rne (rC147 hR) (rC148 hR) (by decide)), if_neg (by omega)]⟩ (NN_gt (by show F - 0 < 100000; omega))
  obtain ⟨r, e, k⟩ := key
  refine ⟨r, ?_, k⟩
  have e : f3_keep_l19 G (some (L.1 115)) s NN 0 (zsA u (L.1 148) s (nz 1)) = some r := e
  unfold f3_keep
  rw [gfR_v (rT115 hR) (rR115_124 hR), Option.bind_some, alI_e s (rT148 hR) rfl (by omega) (by omega), Option.bind_some, h0, if_pos (by decide), Option.bind_some, asI_e s (rT148 hR) (rG148 hR) rfl (by omega) (by omega), Option.bind_some, e]
  rfl
theorem c_keep1 {G : CG} {L : Ly} {u : Sg} {m : Mu} (h : RC G L u m) {s : Nat} (hs : s < 2) (h0 : zA u (L.1 148) s = 1) : f3_keep G (some (L.1 115)) s u = some u := by
  have hR := h.1
  have l148 := rL148 hR
  unfold f3_keep
  rw [gfR_v (rT115 hR) (rR115_124 hR), Option.bind_some, alI_e s (rT148 hR) rfl (by omega) (by omega), Option.bind_some, h0, if_neg (by decide)]
theorem m_keepL {m : Mu} {a s F : Nat} {v : Nat → Int} {v2 v3 : Int} (hF : F ≤ 8) (hs : s < 2) (ha : a ≤ 13) (h12 : m.2 12 a = (F : Int)) (hv : ∀ f, f < F → m.2 59 f = v f) : ∃ m', m5_compare_l158 a v2 v3 s NN 0 m = some m' ∧ mfr [] [66] m m' ∧ ∀ i, m'.2 66 i = if 8 * s ≤ i ∧ i < 8 * s + F then v (i - 8 * s) else m.2 66 i := by
  have key := loop_ind (fun q (w : Nat × Mu) => m5_compare_l158 a v2 v3 s q (w.1 : Int) w.2) (fun w => F - w.1) (fun w => w.1 ≤ F ∧ mfr [] [66] m w.2 ∧ ∀ i, w.2.2 66 i = if 8 * s ≤ i ∧ i < 8 * s + w.1 then v (i - 8 * s) else m.2 66 i) (fun _ r => mfr [] [66] m r ∧ ∀ i, r.2 66 i = if 8 * s ≤ i ∧ i < 8 * s + F then v (i - 8 * s) else m.2 66 i) (by
    rintro q ⟨f, t⟩ ⟨hf, fr, h3⟩ ih
    dsimp only at hf fr h3 ⊢
    show ok (m5_compare_l158 a v2 v3 s (q + 1) (f : Int) t) _
    unfold m5_compare_l158
    refine ok_mald a rfl (by omega) (by omega) ?_
    rw [fr.2 12 (by simp), h12, w32_n (by omega), w32_n (by omega)]
    refine ok_ite (fun hz => ok_some ⟨fr, by rw [show F = f by omega]; exact h3⟩) (fun hz => ?_)
    refine ok_mald f rfl (by omega) (by omega) (ok_mast (8 * s + f) (by omega) (by omega) (by omega) ?_)
    rw [fr.2 59 (by simp), hv f (by omega)]
    refine ih (f + 1, ma t 66 (8 * s + f) (v f)) ⟨by show f + 1 ≤ F; omega, mfr_ma fr (by simp), fun i => ?_⟩ (by show F - (f + 1) < F - f; omega)
    dsimp only
    rw [ma_s]
    by_cases z : i = 8 * s + f
    · rw [if_pos z, if_pos (by omega), show i - 8 * s = f by omega]
    · rw [if_neg z, h3 i]
      by_cases z2 : 8 * s ≤ i ∧ i < 8 * s + f
      · rw [if_pos z2, if_pos (by omega)]
      · rw [if_neg z2, if_neg (by omega)]) NN (0, m) ⟨Nat.zero_le _, mfr_rf, fun i => by dsimp only; rw [if_neg (by omega)]⟩ (NN_gt (by show F - 0 < 100000; omega))
  obtain ⟨r, e, k⟩ := key
  exact ⟨r, e, k⟩

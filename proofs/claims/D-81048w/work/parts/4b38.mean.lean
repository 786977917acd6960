/-! THE READER: a new name; a meaning's cells -/
theorem newName7 {G : CG} {L : Ly} {r a N0 : Nat} {κ : Nat → Nat} {t : Sg} {m : Mu} {W : Wv} (h : IX G L r a N0 κ t m W) {v1 v2 : Int} : (∃ e t' K m', f7_newName G (some r) t = some ((.inl e, t'), 1, 8) ∧ TH7 r t (m.1 5) e t' 1 8 K (m.1 5) ∧ m5_newName v1 v2 m = some m' ∧ MF m m' K (m.1 5)) ∨ (∃ x, f7_newName G (some r) t = some ((.inr x, t), 0, 0) ∧ NM x (m.1 6) ∧ m.1 4 = 1 ∧ m5_newName v1 v2 m = if w32 v1 = w32 v2 then (m5_wrong 6 m).bind fun u3 => some u3 else some m) := by
  obtain ⟨⟨hR, hc, h287, h286⟩, hWB, hCV, ⟨h51, h46, hJ⟩, hSt, hN⟩ := id h
  obtain ⟨k1, k2⟩ := tk_w hR.2.2.1
  unfold f7_newName m5_newName f7_newName_b33 m5_newName_b47
  rw [ztg_e hR.1.1.1, Option.bind_some, hR.2.2.2.2.2, if_pos (by decide), k1.2.2.1]
  rcases want_kind hR (K := 1) (by decide) with ⟨z, e1⟩ | ⟨z, e, t', e1, e2⟩
  · rw [if_pos z, e1, te_ok]
    dsimp only
    have hnm : NM (zI t r 283) (m.1 6) := by
      rcases hR.2.2.1.2.2.2.2.2 with q | ⟨-, q | q | q | q⟩
      · have := q.2.1; omega
      · exact q.2.2
      · have := q.2.1; omega
      · have := q.2.1; omega
      · have := q.2.1; omega
    have hLK := WB_LK hWB
    obtain ⟨v, a1, a2, a3⟩ := lk_fact (G := G) (m := m) (w := 0) hLK hWB.2.1.1 (by omega) hnm
    obtain ⟨v', b1, b2, b3⟩ := lk_mean (G := G) (m := m) (w := 0) hLK hWB.2.1.1 (by omega) hnm
    have thr3 : ∃ e t' K m', (bdU (zNew t 9 8) fun q1 => (gfI q1.2 8 282 (some r)).bind fun x2 => (f8_init G (some q1.1) 3 x2 q1.2).bind fun u3 => (xth q1.1 u3 : Option (((Nat ⊕ Int) × Sg) × Nat × Nat))) = some ((.inl e, t'), 1, 8) ∧ TH7 r t (m.1 5) e t' 1 8 K (m.1 5) ∧ ((m5_wrong 3 m).bind fun u1 => some u1) = some m' ∧ MF m m' K (m.1 5) := by
      obtain ⟨t', e, hth⟩ := c_throw (α := Int) hR 3
      obtain ⟨m', em, hm, -⟩ := m_wrong hR.2.2.2.2.2 3
      exact ⟨_, t', 3, m', e, hth, by rw [em]; rfl, hm⟩
    have hF8 : nF W ≤ 8 := hWB.2.1.2.2.1
    have hM12 : nM W ≤ 12 := hWB.2.1.2.2.2.2.1
    obtain ⟨B, hB⟩ : ∃ B, B = (bdU (zNew t 9 8) fun q1 => (gfI q1.2 8 282 (some r)).bind fun x2 => (f8_init G (some q1.1) 3 x2 q1.2).bind fun u3 => (xth q1.1 u3 : Option (((Nat ⊕ Int) × Sg) × Nat × Nat))) := ⟨_, rfl⟩
    obtain ⟨C, hC⟩ : ∃ C, C = ((m5_wrong 3 m).bind fun u1 => some u1) := ⟨_, rfl⟩
    rw [← hB] at thr3 ⊢
    rw [← hC] at thr3 ⊢
    have a2' : m5_factOf 0 (m.1 6) m = some v := a2
    have b2' : m5_meanOf 0 (m.1 6) m = some v' := b2
    have eC : ((gfR t 8 286 (some r)).bind fun x5 => (gfI t 8 283 (some r)).bind fun x6 => (ztg t 7 x5).bind fun b7 => (f6_fact G (some b7) x6 t).bind fun x8 => if 0 ≤ w32 x8 then B else (gfR t 8 286 (some r)).bind fun x9 => (gfI t 8 283 (some r)).bind fun x10 => (ztg t 7 x9).bind fun b11 => (f6_meaning G (some b11) x10 t).bind fun x12 => if w32 x12 < 0 then (gfI t 8 283 (some r)).bind fun x13 => some ((.inr x13, t), 0, 0) else B) = if 0 ≤ w32 v then B else if w32 v' < 0 then some ((.inr (zI t r 283), t), 0, 0) else B := by
      simp only [gfR_v hR.1.1.1 h286, Option.bind_some, gfI_e hR.1.1.1, ztg_e hWB.1.1.2.1, a1, b1]
    rw [eC]
    obtain ⟨D, hD⟩ : ∃ D, D = (if w32 v1 = w32 v2 then (m5_wrong 6 m).bind fun u3 => some u3 else some m) := ⟨_, rfl⟩
    rw [← hD]
    have eM : ((m5_factOf 0 (m.1 6) m).bind fun x1 => if 0 ≤ w32 x1 then C else (m5_meanOf 0 (m.1 6) m).bind fun x2 => if w32 x2 < 0 then D else C) = if 0 ≤ w32 v then C else if w32 v' < 0 then D else C := by
      rw [a2', b2', Option.bind_some, Option.bind_some]
    rw [eM]
    clear eM eC
    by_cases h1 : 0 ≤ w32 v
    · simp only [if_pos h1]
      exact Or.inl thr3
    · simp only [if_neg h1]
      by_cases h2 : w32 v' < 0
      · simp only [if_pos h2]
        exact Or.inr ⟨_, rfl, hnm, z, trivial⟩
      · simp only [if_neg h2]
        exact Or.inl thr3
  · left
    rw [if_neg z, e1, xt_tel e2.1]
    obtain ⟨m', em, hm⟩ := m_cannot hR.2.2.2.2.2 k1.2.2.1
    rw [if_neg (show ¬ m.1 4 = 5 by omega)] at hm
    exact ⟨e, t', 2, m', rfl, e2, by rw [em]; rfl, hm⟩
/-- at a bad token -/
theorem newName_b {m : Mu} {v1 v2 : Int} (h8 : m.1 8 = 0) (h4 : m.1 4 = 5) : ∃ m', m5_newName v1 v2 m = some m' ∧ MF m m' 1 (m.1 5) := by
  obtain ⟨m', em, hm⟩ := m_cannot h8 (by rw [h4]; decide)
  rw [if_pos h4] at hm
  refine ⟨m', ?_, hm⟩
  unfold m5_newName
  rw [h8, if_pos (by decide), h4, if_neg (by decide), em]; rfl
/-- a condition, whatever came before -/
theorem cond_any {m m2 : Mu} {K P : Int} (hK : 1 ≤ K ∧ K ≤ 6) (h : MFI m m2 K P) : ∃ m', m5_cond m2 = some m' ∧ MFI m m' K P ∧ mfr CS7 CA7 m2 m' := by
  obtain ⟨h1 | ⟨rfl, h2, h3, h4⟩, h5⟩ := h
  · obtain ⟨mc, hmc⟩ : ∃ mc, mc = ms (ms m2 49 0) 50 0 := ⟨_, rfl⟩
    have oc : ∀ j, j ≠ 49 → j ≠ 50 → mc.1 j = m2.1 j := fun j h1 h2 => by rw [hmc, ms_1, if_neg h2, ms_1, if_neg h1]
    have Fc : mfr CS7 CA7 m2 mc := by rw [hmc]; exact mfr_ms (mfr_ms mfr_rf (by decide)) (by decide)
    obtain ⟨k, hk⟩ : ∃ k, NN = k + 1 := ⟨NN - 1, by have := NN_gt (show 2 < 100000 by decide); omega⟩
    refine ⟨mc, ?_, ⟨Or.inl ⟨by rw [oc 8 (by decide) (by decide)]; exact h1.1, by rw [oc 9 (by decide) (by decide)]; exact h1.2⟩, MI_tr h5 (MI_7 Fc)⟩, Fc⟩
    rw [m_cond_TC, ← hmc, hk]
    exact TC_f (by rw [oc 8 (by decide) (by decide), h1.1, w32_id (by omega) (by omega)]; omega)
  · obtain ⟨m', e, hm⟩ := cond_bad h2 h3
    rw [h4] at hm
    exact ⟨m', e, ⟨Or.inl ⟨hm.1, hm.2.1⟩, MI_tr h5 (MI_7 hm.2.2)⟩, hm.2.2⟩
/-- the twin's meaning, once it has a fault or a bad token -/
theorem rdM_f {m m4 : Mu} {K P : Int} {n : Nat} (hK : 1 ≤ K ∧ K ≤ 6) (h : MFI m m4 K P) (hn : n < 12) (h19 : m4.2 19 0 = (n : Int)) : ∃ m', ((mast m4 22 168 n (m4.1 46)).bind fun u9 => (mald u9 19 14 0).bind fun x10 => (mast u9 19 14 0 (x10 + 1)).bind fun u11 => (m5_wantsSign 6 u11).bind fun u12 => some u12) = some m' ∧ MFI m m' K P := by
  rw [mast_e n rfl (by omega) (by omega), Option.bind_some]
  obtain ⟨m5, hm5⟩ : ∃ m5, m5 = ma m4 22 n (m4.1 46) := ⟨_, rfl⟩
  rw [← hm5]
  have e1 : mald m5 19 14 0 = some (n : Int) := by rw [mald_e (i := 0) 0 rfl (by omega) (by omega), hm5, ma_o (by decide), h19]
  rw [e1, Option.bind_some, mast_e (i := 0) 0 rfl (by omega) (by omega), Option.bind_some, bind_id7]
  refine wS_any (v := 6) (by decide) hK (MFI_ma ?_ (by decide) (Or.inr (by decide)))
  rw [hm5]; exact MFI_ma h (by decide) (Or.inr (by show n < 12; omega))
theorem rdM_f2 {m m4 : Mu} {K P : Int} {n : Nat} (hK : 1 ≤ K ∧ K ≤ 6) (h : MFI m m4 K P) (hn : n < 12) (h19 : m4.2 19 0 = (n : Int)) : ∃ m', ((mast m4 21 168 n (m4.1 46)).bind fun u7 => (m5_cond u7).bind fun u8 => (mast u8 22 168 n (u8.1 46)).bind fun u9 => (mald u9 19 14 0).bind fun x10 => (mast u9 19 14 0 (x10 + 1)).bind fun u11 => (m5_wantsSign 6 u11).bind fun u12 => some u12) = some m' ∧ MFI m m' K P := by
  rw [mast_e n rfl (by omega) (by omega), Option.bind_some]
  obtain ⟨m5, hm5⟩ : ∃ m5, m5 = ma m4 21 n (m4.1 46) := ⟨_, rfl⟩
  rw [← hm5]
  have h5 : MFI m m5 K P := by rw [hm5]; exact MFI_ma h (by decide) (Or.inr (by show n < 12; omega))
  obtain ⟨m6, e6, h6, f6⟩ := cond_any hK h5
  rw [e6, Option.bind_some]
  exact rdM_f hK h6 hn (by rw [f6.2 19 (by decide), hm5, ma_o (by decide)]; exact h19)
/-- a Long -/
theorem value7 {G : CG} {L : Ly} {t : Sg} {m : Mu} {r : Nat} (h : R7 G L t m r) (hSt : St G t) {x y : Int} (hn : NM x y) : ∃ b t' cc nn, fJ15_valueOf G x t = some ((some b, t'), cc, nn) ∧ cc ≤ 1 ∧ nn ≤ 1 ∧ fr7 r t t' ∧ (∀ j, zI t' r j = zI t r j) ∧ zT t' b = 29 ∧ zI t' b 1120 = x ∧ b < zN t' ∧ (b < G0 G ∨ b = zN t ∧ zN t < zN t') := by
  have hrN := h.2.1.2.1
  have hGN := h.2.1.1
  have eb : ∃ t', fJ15_valueOf_b31 G x t = some ((some (zN t), t'), 1, 1) ∧ fr7 r t t' ∧ (∀ j, zI t' r j = zI t r j) ∧ zT t' (zN t) = 29 ∧ zI t' (zN t) 1120 = x ∧ zN t' = zN t + 1 := by
    refine ⟨zsI (znew t 29 0) (zN t) 1120 x, ?_, fr7_zsI (fr7_znew fr7_rf hrN) (Nat.le_refl _) (by omega), fun j => ?_, ?_, ?_, rfl⟩
    · show ((fJ15_init G (some (zN t)) x (znew t 29 0)).bind _).map _ = _
      unfold fJ15_init fJ14_init
      rw [Option.bind_some, Option.bind_some, Option.bind_some, pfI_e (by rw [znew_T, if_pos rfl]) hGN]
      rfl
    · rw [zsI_I, if_neg (fun q => by have := q.1; omega), znew_I, if_neg (by omega)]
    · show zT (znew t 29 0) (zN t) = 29; rw [znew_T, if_pos rfl]
    · rw [zsI_I, if_pos ⟨rfl, rfl⟩]
  obtain ⟨t', e1, e2, e3, e4, e5, e6⟩ := eb
  unfold fJ15_valueOf
  by_cases z1 : w64 x < -128
  · rw [if_pos z1]
    exact ⟨zN t, t', 1, 1, e1, by omega, by omega, e2, e3, e4, e5, by omega, Or.inr ⟨rfl, by omega⟩⟩
  · rw [if_neg z1]
    by_cases z2 : 127 < w64 x
    · rw [if_pos z2]
      exact ⟨zN t, t', 1, 1, e1, by omega, by omega, e2, e3, e4, e5, by omega, Or.inr ⟨rfl, by omega⟩⟩
    · rw [if_neg z2]
      obtain ⟨d, d1, d2, d3, d4, d5⟩ := hSt.2.2.2
      have hx : w64 x = x := by
        obtain ⟨cs, h1, h2, h3, h4, h5⟩ := hn
        rw [h4]; exact enc_w (Or.inl rfl) h1 h3
      obtain ⟨b, b1, b2, b3, b4⟩ := d5 (x + 128).toNat (by omega)
      refine ⟨b, t, 0, 0, ?_, by omega, by omega, fr7_rf, fun _ => rfl, b3, ?_, by omega, Or.inl b2⟩
      · have d1' : G.2.2.2.2 8 = some d := d1
        rw [d1', alR_e (x + 128).toNat d3 (by omega) (by omega) (by omega), Option.bind_some, b1]
      · rw [b4]; omega

theorem m_due {G : CG} {L : Ly} {u : Sg} {m : Mu} (h : RC G L u m) {c p : Nat} (c1 : 1 ≤ c) (c2 : (c : Int) ≤ m.1 87) (hp : m.2 88 c = (p : Int)) {day : Int} (hday : w32 day = day) {D : Nat → Bool} {P : Nat → Int} (hDP : DP m p D P) (hD : ∀ c, D c = true → m.2 88 c = (p : Int)) (hB : ∀ c, D c = true → 0 ≤ P c ∧ P c ≤ 99999999) : ∃ m', m5_due c day m = some (dueV m p day c (sumD D P (m.1 87).toNat) (sumD (fun j => D j && decide (m.2 90 j / 365 = m.2 90 c / 365)) P (m.1 87).toNat), m') ∧ mfr [] [76, 77] m m' := by
  have hRK := h.2.2.2.2.2.2.2
  have n40 := hRK.2.1
  have hK := hRK.2.2.2.1 c c1 c2
  have hloss := loss_bd hK day
  obtain ⟨k1, k2, k3, k4, k5, k6, k7, k8, k9, k10, k11, k12, k13, k14, k15, k16, kKA, kb, -⟩ := id hK
  have p12 := h.2.2.2.2.2.2.1.2.1
  obtain ⟨e, he⟩ : ∃ e : Nat, m.2 89 c = e := ⟨(m.2 89 c).toNat, by omega⟩
  rw [he] at k7 k8 k9
  have e32 := h.2.2.2.2.2.1.2.1
  obtain ⟨v, v1, v2, v12, v3, hEE, hV, hBV, v4, v5⟩ := ev_at h (e := e) (by omega) k8
  have w90 : w32 (m.2 90 c) = m.2 90 c := w32_id (by omega) (by omega)
  obtain ⟨-, o0, p0, q0, r0, -⟩ := held_e h (p := p) (by omega) (by omega) (w := 0) (d := m.2 90 c) (k := day) (by decide) w90 hday
  obtain ⟨-, o2, p2, q2, -, r2⟩ := held_e h (p := p) (by omega) (by omega) (w := 2) (d := m.2 90 c) (k := day) (by decide) w90 hday
  obtain ⟨-, o1, p1, q1, -, -⟩ := held_e h (p := p) (by omega) (by omega) (w := 1) (d := m.2 90 c) (k := day) (by decide) w90 hday
  have r0 := r0 rfl
  rw [dueV_e, he, show ((e : Int)).toNat = e from rfl, v3, show ((v : Int)).toNat = v from rfl]
  obtain ⟨w, hw⟩ : ∃ w : Nat, hv m p 0 (m.2 90 c) day = w := ⟨(hv m p 0 (m.2 90 c) day).toNat, by omega⟩
  rw [hw] at o0 q0 r0 ⊢
  rw [show ((w : Int)).toNat = w from rfl]
  unfold m5_due
  rw [mald_e (k := 88) c rfl (by omega) (by omega), Option.bind_some, mald_e (k := 90) c rfl (by omega) (by omega), Option.bind_some, mald_e (k := 89) c rfl (by omega) (by omega), Option.bind_some, hp, he, o0, Option.bind_some, o2, Option.bind_some, w32_id (x := hv m p 2 (m.2 90 c) day) (by omega) (by omega), w32_n (by omega)]
  by_cases z2 : hv m p 2 (m.2 90 c) day = 0
  · rw [if_pos z2, if_pos (Or.inl z2)]
    exact ⟨m, rfl, mfr_rf⟩
  rw [if_neg z2]
  by_cases z0 : (w : Int) = 0
  · rw [if_pos z0, if_pos (Or.inr (Or.inl z0))]
    exact ⟨m, rfl, mfr_rf⟩
  rw [if_neg z0]
  obtain ⟨w', ww, w1, w12, w11, hM, hA⟩ := wo_at h (v := (w : Int)) (by omega)
  have : w' = w := by omega
  subst this
  rw [mald_e (k := 72) e rfl (by omega) (by omega), Option.bind_some, v3, m_comp (m := m) (w := w') (v := v) rfl rfl (by omega) (by omega) hM hV (nmO_of hA) (nmO_of hBV), Option.bind_some, w32_b2i]
  cases hc : cmpB (slc m w') (slc m v)
  · rw [if_pos (show b2i false = 0 from rfl), if_pos (Or.inr (Or.inr (Or.inl rfl)))]
    exact ⟨m, rfl, mfr_rf⟩
  rw [if_neg (by decide)]
  have hcm : cmpP (slc m w') (slc m v) := by
    unfold cmpB at hc
    exact @of_decide_eq_true _ (Classical.propDecidable _) hc
  have hwn : (m.2 72 e).toNat = v := by omega
  generalize hW : slc m w' = W at *
  have hbd : ∀ f, f < nF W → vvE m e day f = -1 ∨ (W 17 f ≤ vvE m e day f ∧ vvE m e day f ≤ W 18 f) := fun f hf => by
    have := vvE_bd hEE day (f := f) (by rw [hwn, ← hcm.1]; exact hf)
    rw [hwn] at this
    obtain ⟨-, -, l17, l18, -⟩ := hcm.2 f hf
    rw [l17, l18]
    exact this
  obtain ⟨m1, e1, f1, g1⟩ := m_takeDigits (m := m) (w := w') (e := e) (W := W) (day := day) (vv := vvE m e day) hW (by omega) (by omega) hM hday (fun f hf => by
    obtain ⟨-, -, -, -, -, l, -, -, b8⟩ := hEE
    rw [hwn] at b8
    obtain ⟨k1, k2⟩ := b8 f (by rw [← hcm.1]; exact hf)
    exact ⟨k1.2.2.2.2.1, k1.2.2.2.2.2.1, fun k hk => (k2 k hk).2⟩) (fun f hf => rfl) hbd
  have s1 : slc m1 w' = W := by rw [← hW]; exact slc_of (fun j q1 q2 => f1.2 j (by simp; omega))
  generalize hdg : dgt W (vvE m e day) = dg at *
  have hd2 : ∀ f, f < nF W → -1 ≤ dg f ∧ dg f < nS W f := fun f hf => by rw [← hdg]; exact dgt_bd hM _ hf
  obtain ⟨m2, e2, f2⟩ := m_settled s1 (by omega) hM g1 hd2
  have fr : mfr [] [76, 77] m m2 := mfr_tr (mfr_up f1 (fun k hk => hk) (fun k hk => by revert hk; simp; omega)) (mfr_up f2 (fun k hk => hk) (fun k hk => by revert hk; simp; omega))
  have s2 : slc m2 w' = W := by rw [← hW]; exact slc_of (fun j q1 q2 => fr.2 j (by simp; omega))
  rw [e1, Option.bind_some, e2, Option.bind_some]
  have h3 := setl_3 W dg
  show ∃ m', (if w32 (setl W dg) = 1 then _ else _) = _ ∧ _
  rw [w32_id (x := setl W dg) (by omega) (by omega)]
  by_cases hs : setl W dg = 1
  · rw [if_pos hs, if_neg (fun z => by
      rcases z with z | z | z | z
      · exact z2 z
      · exact z0 z
      · cases z
      · exact z hs)]
    obtain ⟨sm0, sm1, sm2, sm3, sm4, -⟩ := hM.2.2.2.2.2.1
    have eq : ∀ k, k ∉ [76, 77] → m2.2 k = m.2 k := fun k hk => fr.2 k hk
    have e87 : m2.1 87 = m.1 87 := fr.1 87 (by simp)
    have sums := m_sums (m := m2) (p := p) (c := c) (w := w') (D := D) (P := P) (x := day) (y := m.2 90 c) (by rw [e87]; omega) (fun j j1 j2 => by
      rw [e87] at j2
      obtain ⟨-, -, -, -, y5, y6, -, -, -, -, y11, y12, -⟩ := hRK.2.2.2.1 j j1 j2
      rw [eq 88 (by simp), eq 90 (by simp)]
      exact ⟨w32_id (by omega) (by omega), y11, y12⟩) (by omega) (fun j j1 j2 j3 => by
      rw [e87] at j2
      rw [eq 88 (by simp)] at j3
      rw [eq 96 (by simp), eq 95 (by simp)]
      exact hDP j j1 j2 j3) (fun j hj => by rw [eq 88 (by simp)]; exact hD j hj) ⟨by omega, by omega⟩
    rw [e87, eq 90 (by simp)] at sums
    have bt := sumD_bd hB (m.1 87).toNat
    have by' := sumD_bd (D := fun j => D j && decide (m.2 90 j / 365 = m.2 90 c / 365)) (P := P) (fun j hj => hB j (by simp at hj; exact hj.1)) (m.1 87).toNat
    have hl2 : m5_lossAt c day m2 = some (onV (m.2 92 c) (fun k => m.2 93 (6 * c + k)) (fun k => m.2 94 (6 * c + k)) day 0) := by
      rw [m_lossAt (m := m2) (c := c) (by omega) (by rw [eq 92 (by simp)]; exact ⟨kKA.2.2.2.2.1, kKA.2.2.2.2.2.1⟩) (by rw [eq 92 (by simp), eq 94 (by simp)]; exact fun k hk => (kb k hk).2.2) hday, eq 92 (by simp), eq 93 (by simp), eq 94 (by simp)]
    have ho : m5_held p 1 (m.2 90 c) day m2 = some (hv m p 1 (m.2 90 c) day) := by
      rw [← o1, ← pj_held (m := m2), ← pj_held (m := m), pj_fr (mfr_up fr (by simp) (by decide))]
    have r32 : mald m2 32 70 (5 * (w' : Int)) = some (W 32 0) := by
      rw [← s2]; exact m_sl (w := w') (k := 32) (j := 0) (by decide) (by show (5 : Int) * w' = ((5 * w' + 0 : Nat) : Int); omega) (by show 5 * w' + 0 < 70; omega) (by omega)
    rw [sums, Option.bind_some, hl2, Option.bind_some, r32, Option.bind_some]
    have w0s : w32 (W 32 0) = W 32 0 := by unfold smO at sm0; exact w32_id (by omega) (by omega)
    rw [w0s]
    refine ⟨m2, ?_, fr⟩
    have ch := fun (x : Int) (hx : x = max 0 (W 32 0)) => m_chain (m := m2) (p := p) (d := m.2 90 c) (k := day) s2 (by omega) hloss sm0 sm1 sm2 sm3 sm4 ⟨p1, q1⟩ ho (tot := sumD D P (m.1 87).toNat) (by omega) (yr := sumD (fun j => D j && decide (m.2 90 j / 365 = m.2 90 c / 365)) P (m.1 87).toNat) (by omega) hx
    by_cases hz : 0 ≤ W 32 0
    · rw [if_pos hz, Option.bind_some]; exact ch _ (by omega)
    · rw [if_neg hz]; exact ch _ (by omega)
  · rw [if_neg hs, if_pos (Or.inr (Or.inr (Or.inr hs)))]
    exact ⟨m2, rfl, fr⟩

/-- a claim's place, its loss -/
theorem loss_bd {G : CG} {L : Ly} {u : Sg} {m : Mu} {c : Nat} (h : KE G L u m c) (day : Int) : 0 ≤ onV (m.2 92 c) (fun k => m.2 93 (6 * c + k)) (fun k => m.2 94 (6 * c + k)) day 0 ∧ onV (m.2 92 c) (fun k => m.2 93 (6 * c + k)) (fun k => m.2 94 (6 * c + k)) day 0 ≤ 99999999 := by
  obtain ⟨-, -, -, -, -, -, -, -, -, -, -, -, -, -, -, -, hKA, hb, -⟩ := h
  have hn := hKA.2.2.2.2.1
  unfold onV
  rcases onS_in (fun k => m.2 93 (6 * c + k)) (fun k => m.2 94 (6 * c + k)) day 0 (m.2 92 c).toNat (fun k hk => (hb k (by omega)).2.2.1) with q | ⟨g, hg, q⟩
  · rw [q]; simp
  · rw [q]
    have := hb g (by omega)
    exact ⟨this.1, this.2.1⟩
theorem c_worth {G : CG} {L : Ly} {u : Sg} {m : Mu} (h : RC G L u m) {c p : Nat} (c1 : 1 ≤ c) (c2 : (c : Int) ≤ m.1 87) (hp : m.2 88 c = (p : Int)) {day tot yr : Int} (hday : w32 day = day) (ht : 0 ≤ tot ∧ tot ≤ 10000000000) (hy : 0 ≤ yr ∧ yr ≤ 10000000000) : ∃ u', f0_worth G (some (L.1 3)) (some (L.1 (4000 + 8 * c))) (some (L.1 (5000 + 8 * p))) day tot yr u = some (dueV m p day c tot yr, u') ∧ scr L u u' ∧ 0 ≤ dueV m p day c tot yr ∧ dueV m p day c tot yr ≤ 99999999 := by
  have hK := h.2.2.2.2.2.2.2.2.2.2.1 c c1 c2
  have hloss := loss_bd hK day
  obtain ⟨k1, k2, k3, k4, k5, k6, k7, k8, k9, k10, k11, k12, k13, k14, k15, k16, kKA, kb, -⟩ := id hK
  have hR := h.1
  obtain ⟨e, he⟩ : ∃ e : Nat, m.2 89 c = e := ⟨(m.2 89 c).toNat, by omega⟩
  rw [he] at k7 k8 k9
  have k9 : zR u (L.1 (4000 + 8 * c)) 841 = some (L.1 (400 + e)) := k9
  obtain ⟨v, v1, v2, v12, v3, hEE, hV, hB, v4, v5⟩ := ev_at h (e := e) (by omega) k8
  have hP := h.2.2.2.2.2.2.1.2.2.2 p (by omega) (by omega)
  have w90 : w32 (m.2 90 c) = m.2 90 c := w32_id (by omega) (by omega)
  obtain ⟨o0, -, p0, q0, r0, -⟩ := held_e h (p := p) (by omega) (by omega) (w := 0) (d := m.2 90 c) (k := day) (by decide) w90 hday
  obtain ⟨o2, -, p2, q2, -, r2⟩ := held_e h (p := p) (by omega) (by omega) (w := 2) (d := m.2 90 c) (k := day) (by decide) w90 hday
  obtain ⟨o1, -, p1, q1, -, -⟩ := held_e h (p := p) (by omega) (by omega) (w := 1) (d := m.2 90 c) (k := day) (by decide) w90 hday
  have r0 := r0 rfl
  rw [dueV_e, he, show ((e : Int)).toNat = e from rfl, v3, show ((v : Int)).toNat = v from rfl]
  obtain ⟨w, hw⟩ : ∃ w : Nat, hv m p 0 (m.2 90 c) day = w := ⟨(hv m p 0 (m.2 90 c) day).toNat, by omega⟩
  rw [hw] at o0 q0 r0 ⊢
  rw [show ((w : Int)).toNat = w from rfl]
  unfold f0_worth
  rw [gfI_v k1 k10, Option.bind_some, ztg_e hP.1, Option.bind_some, o0, Option.bind_some, Option.bind_some, Option.bind_some, o2, Option.bind_some, w32_id (x := hv m p 2 (m.2 90 c) day) (by omega) (by omega), w32_n (by omega)]
  by_cases z2 : hv m p 2 (m.2 90 c) day = 0
  · rw [if_pos z2, if_pos (Or.inl z2)]
    exact ⟨u, rfl, scr_rf, by omega, by omega⟩
  rw [if_neg z2]
  by_cases z0 : (w : Int) = 0
  · rw [if_pos z0, if_pos (Or.inr (Or.inl z0))]
    exact ⟨u, rfl, scr_rf, by omega, by omega⟩
  rw [if_neg z0]
  obtain ⟨w', ww, w1, w12, w11, hM, hA⟩ := wo_at h (v := (w : Int)) (by omega)
  have : w' = w := by omega
  subst this
  have w11' := h.2.2.2.2.1.2.1
  have hE72 : zR u (L.1 (400 + e)) 720 = some (L.1 (300 + v)) := by
    have := hEE.2.2.2.2.1
    rw [v3] at this
    exact this
  rw [ztg_e (rT3 hR), Option.bind_some, c_the h w1 w11, Option.bind_some, gfR_v k1 k9, Option.bind_some, gfR_v hEE.2.2.2.1 hE72, Option.bind_some, ztg_e hA.1.2, Option.bind_some, c_comp hM hV hA hB, Option.bind_some, w32_b2i]
  cases hc : cmpB (slc m w') (slc m v)
  · rw [if_pos (show b2i false = 0 from rfl), if_pos (Or.inr (Or.inr (Or.inl rfl)))]
    exact ⟨u, rfl, scr_rf, by omega, by omega⟩
  rw [if_neg (by decide)]
  have hcm : cmpP (slc m w') (slc m v) := by
    unfold cmpB at hc
    exact @of_decide_eq_true _ (Classical.propDecidable _) hc
  have hwn : (m.2 72 e).toNat = v := by omega
  generalize hW : slc m w' = W at *
  have hbd : ∀ f, f < nF W → vvE m e day f = -1 ∨ (W 17 f ≤ vvE m e day f ∧ vvE m e day f ≤ W 18 f) := fun f hf => by
    have := vvE_bd hEE day (f := f) (by rw [hwn, ← hcm.1]; exact hf)
    rw [hwn] at this
    obtain ⟨-, -, l17, l18, -⟩ := hcm.2 f hf
    rw [l17, l18]
    exact this
  obtain ⟨u', K, e1, s1, hS⟩ := c_set h hM hA hday (toldE_of hEE day (F := nF W) (by rw [hwn, hcm.1]; exact Nat.le_refl _)) hbd
  have h' := RC_scr h s1
  have hR' := h'.1
  have hA' := WA_k (frz_scr s1) hA
  generalize hdg : dgt W (vvE m e day) = dg at *
  have hd2 : ∀ f, f < nF W → -1 ≤ dg f ∧ dg f < nS W f := fun f hf => by rw [← hdg]; exact dgt_bd hM _ hf
  obtain ⟨u2, e4, s2, hS2⟩ := c_answerBy h' hM hA' hS hS.2.2.1 (fun f _ hb => (WS_bit hS hb).2) (fun f hf => (hd2 f hf).2)
  have cg := setl_cg (dgs_K hS (fun f hf => (hd2 f hf).1))
  rw [cg] at e4
  have h2 := RC_scr h' s2
  have hR2 := h2.1
  obtain ⟨⟨a1, a2⟩, -, -, -, -, -, ⟨t0, t1, dd, t2, t3, t4⟩, -⟩ := WA_k (frz_scr s2) hA'
  have hK2 := h2.2.2.2.2.2.2.2.2.2.2.1 c c1 c2
  obtain ⟨k1', -, -, -, -, -, -, -, -, k10', -, -, -, -, -, k16', kKA', kb', -⟩ := id hK2
  have hP2 := h2.2.2.2.2.2.2.1.2.2.2 p (by omega) (by omega)
  rw [Option.bind_some, c_the h w1 w11, Option.bind_some, gfR_v (rT3 hR) (rR3_14 hR), Option.bind_some, Option.bind_some, ztg_e (rT114 hR), Option.bind_some, e1, Option.bind_some, gfR_v (rT3 hR') (rR3_14 hR'), Option.bind_some, Option.bind_some, gfI_v (rT114 hR') hS.2.1, Option.bind_some, ztg_e (rT114 hR'), Option.bind_some, e4, Option.bind_some]
  have h3 := setl_3 W dg
  show ∃ u', (if w32 (setl W dg) = 1 then _ else _) = _ ∧ _
  rw [w32_id (x := setl W dg) (by omega) (by omega)]
  by_cases hs : setl W dg = 1
  · rw [if_pos hs, if_neg (fun z => by
      rcases z with z | z | z | z
      · exact z2 z
      · exact z0 z
      · cases z
      · exact z hs)]
    obtain ⟨sm0, sm1, sm2, sm3, sm4, -⟩ := hM.2.2.2.2.2.1
    obtain ⟨ch, cb1, cb2⟩ := c_chain (s := W 32) hloss sm0 sm1 sm2 sm3 sm4 ⟨p1, q1⟩ ht hy rfl
    refine ⟨u2, ?_, scr_tr s1 s2, cb1, cb2⟩
    have ts : ∀ k : Nat, k < 3 → alI u2 1 (some dd) (k : Int) = some (W 32 (2 + k)) := fun k hk => by rw [alI_e k t3.2.1 rfl (by rw [t3.2.2]; exact hk) (by rw [t3.2.2]; omega), t4 k hk]
    obtain ⟨o1', -⟩ := held_e h2 (p := p) (by omega) (by omega) (w := 1) (d := m.2 90 c) (k := day) (by decide) w90 hday
    have b140 : ∀ y : Int, y = (if 0 ≤ W 32 1 then W 32 1 else 1000) → f0_worth_b140 G (some (L.1 (4000 + 8 * c))) (some (L.1 (5000 + 8 * p))) day tot yr (some (L.1 (300 + w'))) (mx64 0 (w32 (onV (m.2 92 c) (fun k => m.2 93 (6 * c + k)) (fun k => m.2 94 (6 * c + k)) day 0 - mx32 0 (W 32 0)))) y u2 = some (chV (onV (m.2 92 c) (fun k => m.2 93 (6 * c + k)) (fun k => m.2 94 (6 * c + k)) day 0) (W 32) (hv m p 1 (m.2 90 c) day) tot yr, u2) := by
      intro y hy2
      unfold f0_worth_b140
      rw [← hy2] at ch
      rw [gfR_v a2 t2, Option.bind_some, show alI u2 1 (some dd) 0 = some (W 32 2) from ts 0 (by omega), Option.bind_some]
      generalize hb1 : f0_bounded (div64 (mx64 0 (w32 (onV (m.2 92 c) (fun k => m.2 93 (6 * c + k)) (fun k => m.2 94 (6 * c + k)) day 0 - mx32 0 (W 32 0))) * w32 y) 1000) (W 32 2) 0 = B1 at ch ⊢
      cases B1 with
      | none => cases ch
      | some x3 =>
        rw [Option.bind_some] at ch ⊢
        rw [Option.bind_some, show alI u2 1 (some dd) 1 = some (W 32 3) from ts 1 (by omega), Option.bind_some]
        generalize hb2 : f0_bounded x3 (W 32 3) yr = B2 at ch ⊢
        cases B2 with
        | none => cases ch
        | some x6 =>
          rw [Option.bind_some] at ch ⊢
          rw [Option.bind_some, show alI u2 1 (some dd) 2 = some (W 32 4) from ts 2 (by omega), Option.bind_some]
          generalize hb3 : f0_bounded x6 (W 32 4) tot = B3 at ch ⊢
          cases B3 with
          | none => cases ch
          | some x9 =>
            rw [Option.bind_some] at ch ⊢
            rw [gfI_v k1' k10', Option.bind_some, ztg_e hP2.1, Option.bind_some, o1', Option.bind_some, ch]
            rfl
    rw [gfR_v k1' k16', Option.bind_some, ztg_e kKA'.1, Option.bind_some, c_on kKA' (fun k hk => ⟨(kb' k hk).2.2.1, (kb' k hk).2.2.2⟩) hday, Option.bind_some, gfI_v a2 t0, Option.bind_some, gfI_v a2 t1, Option.bind_some]
    have w1s : w32 (W 32 1) = W 32 1 := by unfold smO at sm1; exact w32_id (by omega) (by omega)
    rw [w1s]
    by_cases hz : 0 ≤ W 32 1
    · rw [if_pos hz, Option.bind_some]; exact b140 _ (by rw [if_pos hz])
    · rw [if_neg hz]; exact b140 _ (by rw [if_neg hz])
  · rw [if_neg hs, if_pos (Or.inr (Or.inr (Or.inr hs)))]
    exact ⟨u2, rfl, scr_tr s1 s2, by omega, by omega⟩

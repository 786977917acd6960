/-! paid, end -/
/-- what all claims of a year get, as known on a day -/
noncomputable def gV (m : Mu) (y day : Int) : Int := sumD (fun c => decide (m.2 90 c / 365 = y)) (fun c => PVc m (m.2 88 c).toNat day c) (m.1 87).toNat
theorem pl_sz {G : CG} {L : Ly} {u : Sg} {m : Mu} (h : RC G L u m) : fJ2_size G (some (L.1 107)) u = some (m.1 81) := sz_int h.2.2.2.2.2.2.1.1 h.2.2.2.2.2.2.1.2.2.1
theorem pl_T {G : CG} {L : Ly} {u : Sg} {m : Mu} (h : RC G L u m) : zT u (L.1 107) = 6 := h.2.2.2.2.2.2.1.2.2.1.1.1
theorem c_each1 {G : CG} {L : Ly} {u : Sg} {m : Mu} (h : RC G L u m) {day : Int} (hday : w32 day = day) {v1 v4 : Int} : ∃ u', f0_gridAt_l18 G (some (L.1 3)) v1 day v4 NN 1 u = some u' ∧ scp L u u' ∧ ∀ c : Nat, 1 ≤ c → (c : Int) ≤ m.1 87 → zA u' (L.1 116) (c - 1) = PVc m (m.2 88 c).toNat day c := by
  have p0 := h.2.2.2.2.2.2.1.1
  have p12 := h.2.2.2.2.2.2.1.2.1
  obtain ⟨N, hN⟩ : ∃ N : Nat, m.1 81 = N := ⟨(m.1 81).toNat, by omega⟩
  have key := loop_ind (fun q (s : Nat × Sg) => f0_gridAt_l18 G (some (L.1 3)) v1 day v4 q ((s.1 : Int) + 1) s.2) (fun s => N - s.1) (fun s => s.1 ≤ N ∧ scp L u s.2 ∧ ∀ c : Nat, 1 ≤ c → (c : Int) ≤ m.1 87 → m.2 88 c ≤ (s.1 : Int) → zA s.2 (L.1 116) (c - 1) = PVc m (m.2 88 c).toNat day c) (fun _ r => scp L u r ∧ ∀ c : Nat, 1 ≤ c → (c : Int) ≤ m.1 87 → zA r (L.1 116) (c - 1) = PVc m (m.2 88 c).toNat day c) (by
    rintro q ⟨i, t⟩ ⟨hi, hs, hI⟩ ih
    dsimp only at hi hs hI ⊢
    show ok (f0_gridAt_l18 G (some (L.1 3)) v1 day v4 (q + 1) ((i : Int) + 1) t) _
    unfold f0_gridAt_l18
    have ht := RC_scp h hs
    have hR := ht.1
    refine ok_eq (gfR_v (rT3 hR) (rR3_7 hR)) (ok_eq (ztg_e (pl_T ht)) (ok_eq (pl_sz ht) ?_))
    rw [show w32 (m.1 81) = (N : Int) by rw [hN]; exact w32_n (by omega), w32_id (x := (i : Int) + 1) (by omega) (by omega)]
    refine ok_ite (fun hz => ok_some ⟨hs, fun c c1 c2 => ?_⟩) (fun hz => ?_)
    · obtain ⟨-, -, -, -, b5, b6, -⟩ := ht.2.2.2.2.2.2.2.2.2.2.1 c c1 c2
      exact hI c c1 c2 (by omega)
    obtain ⟨t2, e2, s2, g2⟩ := c_payAll ht (p := i + 1) (by omega) (by omega) hday
    refine ok_eq (ztg_e (rT3 hR)) (ok_eq (by rw [show (i : Int) + 1 = ((i + 1 : Nat) : Int) by omega]; exact e2) ?_)
    refine ih (i + 1, t2) ⟨by show i + 1 ≤ N; omega, scp_tr hs s2, fun c c1 c2 c3 => ?_⟩ (by show N - (i + 1) < N - i; omega)
    dsimp only at c3 ⊢
    rw [g2 c c1 c2]
    by_cases z : m.2 88 c = ((i + 1 : Nat) : Int)
    · rw [if_pos z, z]; rfl
    · rw [if_neg z]; exact hI c c1 c2 (by omega)) NN (0, u) ⟨Nat.zero_le _, scp_rf, fun c c1 c2 c3 => by
      obtain ⟨-, -, -, -, b5, b6, -⟩ := h.2.2.2.2.2.2.2.2.2.2.1 c c1 c2
      dsimp only at c3; omega⟩ (NN_gt (by show N - 0 < 100000; omega))
  obtain ⟨r, e, k⟩ := key
  exact ⟨r, e, k⟩
theorem c_each2 {G : CG} {L : Ly} {u : Sg} {m : Mu} (h : RC G L u m) {day : Int} (hday : w32 day = day) : ∃ u', f0_close_l20 G (some (L.1 3)) day NN 1 u = some u' ∧ scp L u u' ∧ ∀ c : Nat, 1 ≤ c → (c : Int) ≤ m.1 87 → zA u' (L.1 116) (c - 1) = PVc m (m.2 88 c).toNat day c := by
  have e : ∀ n v t, f0_close_l20 G (some (L.1 3)) day n v t = f0_gridAt_l18 G (some (L.1 3)) 0 day 0 n v t := by
    intro n
    induction n with
    | zero => intro v t; rfl
    | succ n ih =>
      intro v t
      unfold f0_close_l20 f0_gridAt_l18
      simp only [ih]
  obtain ⟨u', e1, k⟩ := c_each1 h hday (v1 := 0) (v4 := 0)
  exact ⟨u', by rw [e]; exact e1, k⟩
theorem c_grid {G : CG} {L : Ly} {u : Sg} {m : Mu} (h : RC G L u m) {y k : Int} (hy : 0 ≤ y) (hk : 0 ≤ k) (hyk : y + k ≤ 26) : ∃ u', f0_gridAt G (some (L.1 3)) y k u = some (gV m y ((y + k + 1) * 365 - 1), u') ∧ scp L u u' := by
  obtain ⟨day, hd⟩ : ∃ day, (y + k + 1) * 365 - 1 = day := ⟨_, rfl⟩
  have hday : w32 day = day := w32_id (by omega) (by omega)
  obtain ⟨u', e1, s1, g1⟩ := c_each1 h hday (v1 := y) (v4 := 0)
  have h' := RC_scp h s1
  have hR' := h'.1
  have n0 := h.2.2.2.2.2.2.2.1
  have n40 := h.2.2.2.2.2.2.2.2.1
  obtain ⟨N, hN⟩ : ∃ N : Nat, m.1 87 = N := ⟨(m.1 87).toNat, by omega⟩
  have l116 := rL116 hR'
  have key := loop_ind (fun q (i : Nat) => f0_gridAt_l48 G (some (L.1 3)) y u' q (sumD (fun c => decide (m.2 90 c / 365 = y)) (fun c => PVc m (m.2 88 c).toNat day c) i) (i : Int)) (fun i => N - i) (fun i => i ≤ N) (fun _ r => r = sumD (fun c => decide (m.2 90 c / 365 = y)) (fun c => PVc m (m.2 88 c).toNat day c) N) (by
    intro q i hi ih
    show ok (f0_gridAt_l48 G (some (L.1 3)) y u' (q + 1) (sumD (fun c => decide (m.2 90 c / 365 = y)) (fun c => PVc m (m.2 88 c).toNat day c) i) (i : Int)) _
    unfold f0_gridAt_l48
    refine ok_eq (gfR_v (rT3 hR') (rR3_8 hR')) (ok_eq (ztg_e (cl_T h')) (ok_eq (cl_sz h') ?_))
    rw [show w32 (m.1 87) = (N : Int) by rw [hN]; exact w32_n (by omega), w32_n (by omega)]
    refine ok_ite (fun hz => ok_some (by rw [show i = N by omega])) (fun hz => ?_)
    have k1 : (1 : Nat) ≤ i + 1 := by omega
    have k2 : ((i + 1 : Nat) : Int) ≤ m.1 87 := by omega
    obtain ⟨b1, -, -, b4, b5, b6, -, -, -, b10, b11, b12, -⟩ := h'.2.2.2.2.2.2.2.2.2.2.1 (i + 1) k1 k2
    refine ok_eq (gfR_v (rT3 hR') (rR3_8 hR')) (ok_eq (ztg_e (cl_T h')) (ok_eq (cl_geti h' k1 k2 (by omega)) (ok_eq (zcast_1 b1) (ok_eq (gfI_v b1 b10) ?_))))
    rw [dv365 b11 b12, w32_id (x := y) (by omega) (by omega)]
    have hrec := ih (i + 1) (by omega) (by omega)
    simp only [sumD] at hrec
    have pvb := PVc_bd h (p := (m.2 88 (i + 1)).toNat) hday (i + 1)
    refine ok_ite (fun q1 => ok_eq (gfR_v (rT3 hR') (rR3_16 hR')) (ok_eq (alI_e i (rT116 hR') rfl (by omega) (by omega)) ?_)) (fun q1 => ?_)
    · have := g1 (i + 1) k1 k2
      rw [show i + 1 - 1 = i by omega] at this
      rw [this, w32_id (x := PVc m _ day (i + 1)) (by omega) (by omega)]
      rw [if_pos (decide_eq_true q1)] at hrec
      exact hrec
    · rw [if_neg (fun z => q1 (of_decide_eq_true z))] at hrec
      exact hrec) NN 0 (Nat.zero_le _) (NN_gt (by omega))
  obtain ⟨r, e2, rfl⟩ := key
  refine ⟨u', ?_, s1⟩
  unfold f0_gridAt gV
  have e2 : f0_gridAt_l48 G (some (L.1 3)) y u' NN 0 0 = some (sumD (fun c => decide (m.2 90 c / 365 = y)) (fun c => PVc m (m.2 88 c).toNat day c) N) := e2
  rw [hd, e1, Option.bind_some, e2, Option.bind_some, show (m.1 87).toNat = N by omega]
theorem sumD_split {A B C : Nat → Bool} {X Y Z : Nat → Int} : ∀ n, (∀ c, 1 ≤ c → c ≤ n → (if A c then X c else 0) = (if B c then Y c else 0) + (if C c then Z c else 0)) → sumD A X n = sumD B Y n + sumD C Z n := by
  intro n
  induction n with
  | zero => intro _; rfl
  | succ n ih =>
    intro h
    simp only [sumD]
    rw [ih (fun c c1 c2 => h c c1 (by omega)), h (n + 1) (by omega) (Nat.le_refl _)]
    omega
theorem usedV_fr {m m' : Mu} (h : mfr MS0 MA0 m m') {p : Nat} {y day : Int} : usedV m' p y day = usedV m p y day := by
  unfold usedV
  rw [h.1 87 (by decide), h.2 88 (by decide), h.2 90 (by decide), show PVc m' p day = PVc m p day from funext fun c => PVc_fr h]
theorem gV_fr {m m' : Mu} (h : mfr MS0 MA0 m m') {y day : Int} : gV m' y day = gV m y day := by
  unfold gV
  rw [h.1 87 (by decide), h.2 88 (by decide), h.2 90 (by decide), show (fun c => PVc m' (m.2 88 c).toNat day c) = (fun c => PVc m (m.2 88 c).toNat day c) from funext fun c => PVc_fr h]
theorem m_paidAt {G : CG} {L : Ly} {u : Sg} {m : Mu} (h : RC G L u m) {y k : Int} (hy : 0 ≤ y) (hk : 0 ≤ k) (hyk : y + k ≤ 26) : ∃ m', m5_paidAt y k m = some (gV m y ((y + k + 1) * 365 - 1), m') ∧ mfr [] [76, 77, 95, 96] m m' := by
  obtain ⟨day, hd⟩ : ∃ day, (y + k + 1) * 365 - 1 = day := ⟨_, rfl⟩
  have hday : w32 day = day := w32_id (by omega) (by omega)
  have p0 := h.2.2.2.2.2.2.1.1
  have p12 := h.2.2.2.2.2.2.1.2.1
  have n0 := h.2.2.2.2.2.2.2.1
  obtain ⟨N, hN⟩ : ∃ N : Nat, m.1 81 = N := ⟨(m.1 81).toNat, by omega⟩
  have key := loop_ind (fun q (s : Nat × Mu) => m5_paidAt_l18 y day q (sumD (fun c => decide (m.2 88 c ≤ (s.1 : Int) ∧ m.2 90 c / 365 = y)) (fun c => PVc m (m.2 88 c).toNat day c) (m.1 87).toNat) ((s.1 : Int) + 1) s.2) (fun s => N - s.1) (fun s => s.1 ≤ N ∧ mfr [] [76, 77, 95, 96] m s.2) (fun _ r => r.1 = gV m y day ∧ mfr [] [76, 77, 95, 96] m r.2) (by
    rintro q ⟨i, t⟩ ⟨hi, fr⟩ ih
    dsimp only at hi fr ⊢
    show ok (m5_paidAt_l18 y day (q + 1) (sumD (fun c => decide (m.2 88 c ≤ (i : Int) ∧ m.2 90 c / 365 = y)) (fun c => PVc m (m.2 88 c).toNat day c) (m.1 87).toNat) ((i : Int) + 1) t) _
    unfold m5_paidAt_l18
    rw [fr.1 81 (by simp), show w32 (m.1 81) = (N : Int) by rw [hN]; exact w32_n (by omega), w32_id (x := (i : Int) + 1) (by omega) (by omega)]
    refine ok_ite (fun hz => ok_some ⟨?_, fr⟩) (fun hz => ?_)
    · show sumD _ _ _ = gV m y day
      unfold gV
      refine sumD_cg _ (fun c c1 c2 => ⟨?_, fun _ => rfl⟩)
      obtain ⟨-, -, -, -, b5, b6, -⟩ := h.2.2.2.2.2.2.2.2.2.2.1 c c1 (by omega)
      rw [decide_eq_decide]
      exact ⟨fun z => z.2, fun z => ⟨by omega, z⟩⟩
    obtain ⟨t2, e2, s2⟩ := m_used (RC_msc h (MAp fr)) (p := i + 1) (by omega) (by rw [fr.1 81 (by simp)]; omega) (y := y) (day := day) ⟨by omega, by omega⟩ hday ⟨by omega, by omega⟩
    rw [usedV_fr (MAp fr)] at e2
    refine ok_eq (by rw [show (i : Int) + 1 = ((i + 1 : Nat) : Int) by omega]; exact e2) ?_
    have hrec := ih (i + 1, t2) ⟨by show i + 1 ≤ N; omega, mfr_tr fr s2⟩ (by show N - (i + 1) < N - i; omega)
    dsimp only at hrec ⊢
    have es : sumD (fun c => decide (m.2 88 c ≤ ((i + 1 : Nat) : Int) ∧ m.2 90 c / 365 = y)) (fun c => PVc m (m.2 88 c).toNat day c) (m.1 87).toNat = sumD (fun c => decide (m.2 88 c ≤ (i : Int) ∧ m.2 90 c / 365 = y)) (fun c => PVc m (m.2 88 c).toNat day c) (m.1 87).toNat + usedV m (i + 1) y day := by
      unfold usedV
      refine sumD_split _ (fun c c1 c2 => ?_)
      by_cases z1 : m.2 90 c / 365 = y
      · by_cases z2 : m.2 88 c ≤ (i : Int)
        · rw [if_pos (decide_eq_true ⟨by omega, z1⟩), if_pos (decide_eq_true ⟨z2, z1⟩), if_neg (fun z => by have := (of_decide_eq_true z).1; omega)]; omega
        · by_cases z3 : m.2 88 c = ((i + 1 : Nat) : Int)
          · rw [if_pos (decide_eq_true ⟨by omega, z1⟩), if_neg (fun z => z2 (of_decide_eq_true z).1), if_pos (decide_eq_true ⟨z3, Or.inr z1⟩), z3]
            rw [show ((i + 1 : Nat) : Int).toNat = i + 1 from rfl]; omega
          · rw [if_neg (fun z => by have := (of_decide_eq_true z).1; omega), if_neg (fun z => z2 (of_decide_eq_true z).1), if_neg (fun z => z3 (of_decide_eq_true z).1)]; rfl
      · rw [if_neg (fun z => z1 (of_decide_eq_true z).2), if_neg (fun z => z1 (of_decide_eq_true z).2), if_neg (fun z => (of_decide_eq_true z).2.elim (fun q => by omega) z1)]; rfl
    rw [es] at hrec
    exact hrec) NN (0, m) ⟨Nat.zero_le _, mfr_rf⟩ (NN_gt (by show N - 0 < 100000; omega))
  obtain ⟨⟨r1, r2⟩, e, rfl, k⟩ := key
  refine ⟨r2, ?_, k⟩
  have z : sumD (fun c => decide (m.2 88 c ≤ ((0 : Nat) : Int) ∧ m.2 90 c / 365 = y)) (fun c => PVc m (m.2 88 c).toNat day c) (m.1 87).toNat = 0 := by
    have : ∀ n : Nat, (n : Int) ≤ m.1 87 → sumD (fun c => decide (m.2 88 c ≤ ((0 : Nat) : Int) ∧ m.2 90 c / 365 = y)) (fun c => PVc m (m.2 88 c).toNat day c) n = 0 := by
      intro n
      induction n with
      | zero => intro _; rfl
      | succ n ih =>
        intro hn
        simp only [sumD]
        obtain ⟨-, -, -, -, b5, b6, -⟩ := h.2.2.2.2.2.2.2.2.2.2.1 (n + 1) (by omega) hn
        rw [ih (by omega), if_neg (fun z => by have := (of_decide_eq_true z).1; omega)]; rfl
    exact this _ (by omega)
  dsimp only at e
  rw [z] at e
  have e : m5_paidAt_l18 y day NN 0 1 m = some (gV m y day, r2) := e
  unfold m5_paidAt
  rw [hd, e]; rfl
theorem o_paid {G : CG} {L : Ly} {u : Sg} {m : Mu} (h : RC G L u m) (y k : Int) (hy : w32 y = y) (hk : w32 k = k) : sim (f0_paid G (some (L.1 3)) y k u) (m5_paid y k m) (aft G L) := by
  unfold f0_paid m5_paid
  rw [hy, hk]
  refine sim_ite Iff.rfl (fun _ => sim_some ⟨rfl, h⟩) (fun k1 => sim_ite Iff.rfl (fun _ => sim_some ⟨rfl, h⟩) (fun k2 => sim_ite Iff.rfl (fun _ => sim_some ⟨rfl, h⟩) (fun k3 => sim_ite Iff.rfl (fun _ => sim_some ⟨rfl, h⟩) (fun k4 => ?_))))
  rw [w32_id (x := y + k) (by omega) (by omega)]
  refine sim_ite Iff.rfl (fun k5 => ?_) (fun _ => sim_some ⟨rfl, h⟩)
  obtain ⟨u', e1, s1⟩ := c_grid h (y := y) (k := k) (by omega) (by omega) k5
  obtain ⟨m', e2, s2⟩ := m_paidAt h (y := y) (k := k) (by omega) (by omega) k5
  exact sim_L (ztg_e (rT3 h.1)) (sim_L e1 (sim_R e2 (sim_some ⟨rfl, RC_msc (RC_scp h s1) (MAp s2)⟩)))
/-! the grid -/
theorem RC_124 {G : CG} {L : Ly} {u : Sg} {m : Mu} (h : RC G L u m) (i : Nat) (v : Int) : RC G L (zsA u (L.1 124) i v) m := by
  have hR := h.1
  refine RC_pl h (sc2_A sc2_rf (by rw [rC124 hR]; decide)) mfr_rf h.2.1 ?_
  have kA : ∀ r, L.2 (L.1 r) = r → r ≠ 124 → zA (zsA u (L.1 124) i v) (L.1 r) = zA u (L.1 r) := fun r e q => zA_ne (rne e (rC124 hR) q)
  unfold RA
  rw [kA 101 (rC101 hR) (by decide), kA 109 (rC109 hR) (by decide), kA 110 (rC110 hR) (by decide), kA 111 (rC111 hR) (by decide), kA 118 (rC118 hR) (by decide), kA 119 (rC119 hR) (by decide), kA 120 (rC120 hR) (by decide), kA 121 (rC121 hR) (by decide), kA 125 (rC125 hR) (by decide), kA 127 (rC127 hR) (by decide), kA 128 (rC128 hR) (by decide), kA 100 (rC100 hR) (by decide)]
  exact h.2.2.1
noncomputable def gg (m : Mu) (x k : Nat) : Int := gV m (x : Int) (((x : Int) + (k : Int) + 1) * 365 - 1)
noncomputable def aS (m : Mu) (k : Nat) : Nat → Int
  | 0 => 0
  | x + 1 => aS m k x + gg m x k
theorem gg_bd {G : CG} {L : Ly} {u : Sg} {m : Mu} (h : RC G L u m) {x k : Nat} (hx : x + k ≤ 26) : 0 ≤ gg m x k ∧ gg m x k ≤ 4000000000 := by
  have n0 := h.2.2.2.2.2.2.2.1
  have n40 := h.2.2.2.2.2.2.2.2.1
  unfold gg gV
  have := sumD_bd (D := fun c => decide (m.2 90 c / 365 = (x : Int))) (P := fun c => PVc m (m.2 88 c).toNat (((x : Int) + (k : Int) + 1) * 365 - 1) c) (fun c _ => PVc_bd h (w32_id (by omega) (by omega)) c) (m.1 87).toNat
  omega
theorem aS_bd {G : CG} {L : Ly} {u : Sg} {m : Mu} (h : RC G L u m) {k : Nat} : ∀ n, n + k ≤ 20 → 0 ≤ aS m k n ∧ aS m k n ≤ 4000000000 * (n : Int) := by
  intro n
  induction n with
  | zero => intro _; simp [aS]
  | succ n ih =>
    intro hn
    have := ih (by omega)
    have := gg_bd h (x := n) (k := k) (by omega)
    simp only [aS]
    omega
theorem c_fill1 {G : CG} {L : Ly} {u : Sg} {m : Mu} (h : RC G L u m) {last x : Nat} (hx : x ≤ last) (hl : last ≤ 9) {v1 : Int} (hg : ∀ a b, a < x → a + b ≤ last → zA u (L.1 124) (10 * a + b) = gg m a b) : ∃ u', f0_end_l33 G (some (L.1 3)) v1 last x NN 0 u = some u' ∧ RC G L u' m ∧ ∀ a b, a < x + 1 → a + b ≤ last → zA u' (L.1 124) (10 * a + b) = gg m a b := by
  have key := loop_ind (fun q (s : Nat × Sg) => f0_end_l33 G (some (L.1 3)) v1 last x q (s.1 : Int) s.2) (fun s => 20 - s.1) (fun s => x + s.1 ≤ last + 1 ∧ RC G L s.2 m ∧ ∀ a b, (a < x ∨ (a = x ∧ b < s.1)) → a + b ≤ last → zA s.2 (L.1 124) (10 * a + b) = gg m a b) (fun _ r => RC G L r m ∧ ∀ a b, a < x + 1 → a + b ≤ last → zA r (L.1 124) (10 * a + b) = gg m a b) (by
    rintro q ⟨k, t⟩ ⟨hk, ht, hI⟩ ih
    dsimp only at hk ht hI ⊢
    show ok (f0_end_l33 G (some (L.1 3)) v1 last x (q + 1) (k : Int) t) _
    unfold f0_end_l33
    rw [w32_n (by omega), w32_id (x := (x : Int) + (k : Int)) (by omega) (by omega)]
    refine ok_ite (fun hz => ok_some ⟨ht, fun a b h1 h2 => hI a b (by omega) h2⟩) (fun hz => ?_)
    have hR := ht.1
    obtain ⟨t2, e2, s2⟩ := c_grid ht (y := x) (k := k) (by omega) (by omega) (by omega)
    have ht2 := RC_scp ht s2
    have hR2 := ht2.1
    refine ok_eq (gfR_v (rT3 hR) (rR3_24 hR)) (ok_eq (ztg_e (rT3 hR)) (ok_eq e2 (ok_eq (asI_e (10 * x + k) (rT124 hR2) (rG124 hR2) (by omega) (by show _ < zL t2 _; rw [rL124 hR2]; omega) (by show zL t2 _ ≤ _; rw [rL124 hR2]; omega)) ?_)))
    refine ih (k + 1, zsA t2 (L.1 124) (10 * x + k) (gg m x k)) ⟨by show x + (k + 1) ≤ last + 1; omega, RC_124 ht2 _ _, fun a b h1 h2 => ?_⟩ (by show 20 - (k + 1) < 20 - k; omega)
    dsimp only at h1 ⊢
    rw [zsA_A]
    by_cases z : 10 * a + b = 10 * x + k
    · have z1 : a = x := by omega
      have z2 : b = k := by omega
      subst z1 z2
      rw [if_pos ⟨rfl, rfl⟩]
    · rw [if_neg (fun y => z y.2), (s2.2.2.2.2.2 _ (by rw [rC124 hR]; decide)).1]
      exact hI a b (by omega) h2) NN (0, u) ⟨by dsimp only; omega, h, fun a b h1 h2 => hg a b (by dsimp only at h1; omega) h2⟩ (NN_gt (by show 20 - 0 < 100000; omega))
  obtain ⟨r, e, k⟩ := key
  exact ⟨r, e, k⟩
theorem c_fill {G : CG} {L : Ly} {u : Sg} {m : Mu} (h : RC G L u m) {last : Nat} (hl : last ≤ 9) {v1 : Int} : ∃ u', f0_end_l25 G (some (L.1 3)) v1 last NN 0 u = some u' ∧ RC G L u' m ∧ ∀ a b, a + b ≤ last → zA u' (L.1 124) (10 * a + b) = gg m a b := by
  have key := loop_ind (fun q (s : Nat × Sg) => f0_end_l25 G (some (L.1 3)) v1 last q (s.1 : Int) s.2) (fun s => 20 - s.1) (fun s => s.1 ≤ last + 1 ∧ RC G L s.2 m ∧ ∀ a b, a < s.1 → a + b ≤ last → zA s.2 (L.1 124) (10 * a + b) = gg m a b) (fun _ r => RC G L r m ∧ ∀ a b, a + b ≤ last → zA r (L.1 124) (10 * a + b) = gg m a b) (by
    rintro q ⟨x, t⟩ ⟨hx, ht, hI⟩ ih
    dsimp only at hx ht hI ⊢
    show ok (f0_end_l25 G (some (L.1 3)) v1 last (q + 1) (x : Int) t) _
    unfold f0_end_l25
    rw [w32_n (by omega), w32_n (by omega)]
    refine ok_ite (fun hz => ok_some ⟨ht, fun a b h2 => hI a b (by omega) h2⟩) (fun hz => ?_)
    obtain ⟨t2, e2, s2, g2⟩ := c_fill1 ht (last := last) (x := x) (by omega) hl (v1 := v1) hI
    refine ok_eq e2 ?_
    exact ih (x + 1, t2) ⟨by show x + 1 ≤ last + 1; omega, s2, g2⟩ (by show 20 - (x + 1) < 20 - x; omega)) NN (0, u) ⟨by dsimp only; omega, h, fun a b h1 h2 => (by dsimp only at h1; omega)⟩ (NN_gt (by show 20 - 0 < 100000; omega))
  obtain ⟨r, e, k⟩ := key
  exact ⟨r, e, k⟩
theorem c_sum2 {G : CG} {L : Ly} {u : Sg} {m : Mu} (h : RC G L u m) {last k : Nat} (hk : k < last) (hl : last ≤ 9) {v3 : Int} (hg : ∀ a b, a + b ≤ last → zA u (L.1 124) (10 * a + b) = gg m a b) : f0_end_l106 G (some (L.1 3)) last v3 k u NN 0 0 0 = some (aS m (k + 1) (last - k), aS m k (last - k)) := by
  have hR := h.1
  have l124 := rL124 hR
  have key := loop_ind (fun q (x : Nat) => f0_end_l106 G (some (L.1 3)) last v3 k u q (aS m (k + 1) x) (aS m k x) (x : Int)) (fun x => 20 - x) (fun x => x ≤ last - k) (fun _ r => r = (aS m (k + 1) (last - k), aS m k (last - k))) (by
    intro q x hx ih
    show ok (f0_end_l106 G (some (L.1 3)) last v3 k u (q + 1) (aS m (k + 1) x) (aS m k x) (x : Int)) _
    unfold f0_end_l106
    rw [w32_id (x := (last : Int) - (k : Int) - 1) (by omega) (by omega), w32_n (by omega)]
    refine ok_ite (fun hz => ok_some (by rw [show x = last - k by omega])) (fun hz => ?_)
    refine ok_eq (gfR_v (rT3 hR) (rR3_24 hR)) (ok_eq (alI_e (10 * x + (k + 1)) (rT124 hR) (by omega) (by omega) (by omega)) (ok_eq (gfR_v (rT3 hR) (rR3_24 hR)) (ok_eq (alI_e (10 * x + k) (rT124 hR) (by omega) (by omega) (by omega)) ?_)))
    rw [hg x (k + 1) (by omega), hg x k (by omega)]
    exact ih (x + 1) (by omega) (by omega)) NN 0 (Nat.zero_le _) (NN_gt (by omega))
  obtain ⟨r, e, rfl⟩ := key
  exact e
theorem m_sum2 {G : CG} {L : Ly} {u : Sg} {m : Mu} (h : RC G L u m) {last k : Nat} (hk : k < last) (hl : last ≤ 9) {v3 : Int} : ∃ m', m5_end_l52 last v3 k NN 0 0 0 m = some (aS m (k + 1) (last - k), aS m k (last - k), m') ∧ mfr [] [76, 77, 95, 96] m m' := by
  have key := loop_ind (fun q (s : Nat × Mu) => m5_end_l52 last v3 k q (aS m (k + 1) s.1) (aS m k s.1) (s.1 : Int) s.2) (fun s => 20 - s.1) (fun s => s.1 ≤ last - k ∧ mfr [] [76, 77, 95, 96] m s.2) (fun _ r => r.1 = aS m (k + 1) (last - k) ∧ r.2.1 = aS m k (last - k) ∧ mfr [] [76, 77, 95, 96] m r.2.2) (by
    rintro q ⟨x, t⟩ ⟨hx, fr⟩ ih
    dsimp only at hx fr ⊢
    show ok (m5_end_l52 last v3 k (q + 1) (aS m (k + 1) x) (aS m k x) (x : Int) t) _
    unfold m5_end_l52
    rw [w32_id (x := (last : Int) - (k : Int) - 1) (by omega) (by omega), w32_n (by omega)]
    refine ok_ite (fun hz => ok_some (by rw [show x = last - k by omega]; exact ⟨rfl, rfl, fr⟩)) (fun hz => ?_)
    obtain ⟨t2, e2, s2⟩ := m_paidAt (RC_msc h (MAp fr)) (y := x) (k := (k : Int) + 1) (by omega) (by omega) (by omega)
    have f2 := mfr_tr fr s2
    obtain ⟨t3, e3, s3⟩ := m_paidAt (RC_msc h (MAp f2)) (y := x) (k := k) (by omega) (by omega) (by omega)
    rw [gV_fr (MAp fr)] at e2
    rw [gV_fr (MAp f2)] at e3
    refine ok_eq e2 (ok_eq e3 ?_)
    have := ih (x + 1, t3) ⟨by show x + 1 ≤ last - k; omega, mfr_tr f2 s3⟩ (by show 20 - (x + 1) < 20 - x; omega)
    exact this) NN (0, m) ⟨Nat.zero_le _, mfr_rf⟩ (NN_gt (by show 20 - 0 < 100000; omega))
  obtain ⟨⟨r1, r2, r3⟩, e, rfl, rfl, k⟩ := key
  exact ⟨r3, e, k⟩
theorem aS_fr {m m' : Mu} (h : mfr MS0 MA0 m m') {k : Nat} : ∀ n, aS m' k n = aS m k n := by
  intro n
  induction n with
  | zero => rfl
  | succ n ih => simp only [aS]; rw [ih]; unfold gg; rw [gV_fr h]
noncomputable def nxV (m : Mu) (last k : Nat) (v : Int) : Int := if aS m k (last - k) = 0 then v else mn64 (div64 (v * aS m (k + 1) (last - k)) (aS m k (last - k))) 2000000000
noncomputable def endV (m : Mu) (last : Nat) : Nat → Nat → Int → Int
  | 0, _, v => v
  | d + 1, k, v => endV m last d (k + 1) (nxV m last k v)
theorem c_endL {G : CG} {L : Ly} {u : Sg} {m : Mu} (h : RC G L u m) {last : Nat} (hl : last ≤ 9) (hg : ∀ a b, a + b ≤ last → zA u (L.1 124) (10 * a + b) = gg m a b) : ∀ (n k : Nat) (v : Int), k ≤ last → last - k < n → f0_end_l91 G (some (L.1 3)) last u n v k = some (endV m last (last - k) k v) := by
  intro n
  induction n with
  | zero => intro k v _ hn; omega
  | succ n ih =>
    intro k v hk hn
    unfold f0_end_l91
    rw [w32_n (by omega), w32_n (by omega)]
    by_cases hz : (last : Int) ≤ (k : Int)
    · rw [if_pos hz, show last - k = 0 by omega]; rfl
    · have ab := aS_bd h (k := k) (last - k) (by omega)
      rw [if_neg hz, c_sum2 h (by omega) hl hg, Option.bind_some]
      dsimp only
      obtain ⟨d, hd⟩ : ∃ d, last - k = d + 1 := ⟨last - k - 1, by omega⟩
      rw [w64_id (x := aS m k (last - k)) (by omega) (by omega)]
      have hi := fun v => ih (k + 1) v (by omega) (by omega)
      rw [show last - (k + 1) = d by omega] at hi
      have hn : endV m last (last - k) k v = endV m last d (k + 1) (nxV m last k v) := by rw [hd]; rfl
      rw [hn]
      by_cases hb : aS m k (last - k) = 0
      · rw [if_pos hb, show nxV m last k v = v from if_pos hb]
        exact hi v
      · rw [if_neg hb, if_neg hb, show nxV m last k v = _ from if_neg hb]
        exact hi _
theorem lesser_mn {x : Int} (h1 : -9223372036854775808 ≤ x) (h2 : x ≤ 9223372036854775808) : m5_lesser x 2000000000 = some (mn64 x 2000000000) := by
  unfold m5_lesser mn64
  rw [w64_id (x := 2000000000) (by omega) (by omega)]
  by_cases q1 : 2000000000 < w64 x
  · rw [if_pos q1, if_pos (by omega)]
  · rw [if_neg q1]
    by_cases q2 : 2000000000 ≤ w64 x
    · rw [if_pos q2]
      unfold w64 at q1 q2
      congr 1
      omega
    · rw [if_neg q2]
theorem div64_bd (x y : Int) : -9223372036854775808 ≤ div64 x y ∧ div64 x y ≤ 9223372036854775808 := by
  have h1 := w64_lo x
  have h2 := w64_hi x
  have := Int.natAbs_tdiv_le_natAbs (w64 x) (w64 y)
  unfold div64
  omega
theorem m_endL {G : CG} {L : Ly} {u : Sg} {m : Mu} (h : RC G L u m) {last : Nat} (hl : last ≤ 9) : ∀ (n k : Nat) (v : Int) (t : Mu), mfr [] [76, 77, 95, 96] m t → k ≤ last → last - k < n → ∃ t', m5_end_l37 last n v k t = some (endV m last (last - k) k v, t') ∧ mfr [] [76, 77, 95, 96] m t' := by
  intro n
  induction n with
  | zero => intro k v t _ _ hn; omega
  | succ n ih =>
    intro k v t fr hk hn
    unfold m5_end_l37
    rw [w32_n (by omega), w32_n (by omega)]
    by_cases hz : (last : Int) ≤ (k : Int)
    · rw [if_pos hz, show last - k = 0 by omega]; exact ⟨t, rfl, fr⟩
    · have ab := aS_bd h (k := k) (last - k) (by omega)
      obtain ⟨t2, e2, s2⟩ := m_sum2 (RC_msc h (MAp fr)) (last := last) (k := k) (by omega) hl (v3 := v)
      rw [aS_fr (MAp fr), aS_fr (MAp fr)] at e2
      have f2 := mfr_tr fr s2
      rw [if_neg hz, e2, Option.bind_some]
      dsimp only
      obtain ⟨d, hd⟩ : ∃ d, last - k = d + 1 := ⟨last - k - 1, by omega⟩
      rw [w64_id (x := aS m k (last - k)) (by omega) (by omega)]
      have hi := fun v => ih (k + 1) v t2 f2 (by omega) (by omega)
      rw [show last - (k + 1) = d by omega] at hi
      have hn : endV m last (last - k) k v = endV m last d (k + 1) (nxV m last k v) := by rw [hd]; rfl
      rw [hn]
      by_cases hb : aS m k (last - k) = 0
      · rw [if_pos hb, show nxV m last k v = v from if_pos hb]
        exact hi v
      · have := div64_bd (v * aS m (k + 1) (last - k)) (aS m k (last - k))
        rw [if_neg hb, if_neg hb, show nxV m last k v = _ from if_neg hb, lesser_mn this.1 this.2, Option.bind_some]
        exact hi _
theorem o_end {G : CG} {L : Ly} {u : Sg} {m : Mu} (h : RC G L u m) (y last : Int) (hy : w32 y = y) (hk : w32 last = last) : sim (f0_end G (some (L.1 3)) y last u) (m5_end y last m) (aft G L) := by
  unfold f0_end m5_end
  rw [hy, hk]
  refine sim_ite Iff.rfl (fun _ => sim_some ⟨rfl, h⟩) (fun k1 => sim_ite Iff.rfl (fun _ => sim_some ⟨rfl, h⟩) (fun k2 => sim_ite Iff.rfl (fun _ => sim_some ⟨rfl, h⟩) (fun k3 => sim_ite Iff.rfl (fun k4 => ?_) (fun _ => sim_some ⟨rfl, h⟩))))
  obtain ⟨l, rfl⟩ : ∃ l : Nat, last = l := ⟨last.toNat, by omega⟩
  obtain ⟨x, rfl⟩ : ∃ x : Nat, y = x := ⟨y.toNat, by omega⟩
  obtain ⟨u', e1, h1, g1⟩ := c_fill h (last := l) (by omega) (v1 := x)
  have hR1 := h1.1
  obtain ⟨m1, e2, s2⟩ := m_paidAt h (y := x) (k := (l : Int) - x) (by omega) (by omega) (by omega)
  obtain ⟨m2, e3, s3⟩ := m_endL h (last := l) (by omega) NN (l - x) (gg m x (l - x)) m1 s2 (by omega) (NN_gt (by omega))
  have eg : gV m (x : Int) (((x : Int) + ((l : Int) - x) + 1) * 365 - 1) = gg m x (l - x) := by
    unfold gg
    rw [show ((l - x : Nat) : Int) = (l : Int) - x by omega]
  rw [eg] at e2
  have ek : ((l - x : Nat) : Int) = (l : Int) - x := by omega
  rw [ek] at e3
  have e4 := c_endL h1 (last := l) (by omega) g1 NN (l - x) (gg m x (l - x)) (by omega) (NN_gt (by omega))
  rw [ek] at e4
  refine sim_L e1 (sim_L (gfR_v (rT3 hR1) (rR3_24 hR1)) (sim_L (alI_e (10 * x + (l - x)) (rT124 hR1) (by omega) (by rw [rL124 hR1]; omega) (by rw [rL124 hR1]; omega)) ?_))
  rw [g1 x (l - x) (by omega)]
  exact sim_L e4 (sim_R e2 (sim_R e3 (sim_some ⟨rfl, RC_msc h1 (MAp s3)⟩)))

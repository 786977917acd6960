/-! close: the count of rows, the booking -/
noncomputable def clP (m : Mu) (day : Int) (c : Nat) : Int := PVc m (m.2 88 c).toNat day c
noncomputable def clG (m : Mu) (day : Int) (c : Nat) : Int := clP m day c - tkV m (clP m day c) (-1)
noncomputable def clN (m : Mu) (day : Int) (c : Nat) : Int := (if clP m day c = m.2 107 c then 0 else 2) + (if clG m day c = m.2 108 c then 0 else 2)
noncomputable def clR (m : Mu) (day : Int) : Nat → Int
  | 0 => 0
  | i + 1 => clR m day i + clN m day (i + 1)
theorem clN_bd (m : Mu) (day : Int) (c : Nat) : 0 ≤ clN m day c ∧ clN m day c ≤ 4 := by
  unfold clN
  split <;> split <;> omega
theorem clR_bd (m : Mu) (day : Int) : ∀ i : Nat, 0 ≤ clR m day i ∧ clR m day i ≤ 4 * (i : Int) := by
  intro i
  induction i with
  | zero => simp [clR]
  | succ i ih => have := clN_bd m day (i + 1); simp only [clR]; omega
theorem clG_bd {G : CG} {L : Ly} {u : Sg} {m : Mu} (h : RC G L u m) {day : Int} (hday : w32 day = day) (c : Nat) : (0 ≤ clP m day c ∧ clP m day c ≤ 99999999) ∧ (0 ≤ tkV m (clP m day c) (-1) ∧ tkV m (clP m day c) (-1) ≤ clP m day c) ∧ 0 ≤ clG m day c ∧ clG m day c ≤ 99999999 := by
  have p : 0 ≤ clP m day c ∧ clP m day c ≤ 99999999 := PVc_bd h hday c
  obtain ⟨-, -, -, -, s5, s6, s7, -⟩ := h.2.1
  have t := tkL_bd h p (m.1 97).toNat (by omega)
  have t : 0 ≤ tkV m (clP m day c) (-1) ∧ tkV m (clP m day c) (-1) ≤ clP m day c := t
  refine ⟨p, t, ?_⟩
  unfold clG
  omega
theorem clP_bk {m m' : Mu} (h : mfr MSb MAb m m') (day : Int) (c : Nat) : clP m' day c = clP m day c := by
  unfold clP
  rw [PVc_bk h, h.2 88 (by decide)]
theorem clG_bk {m m' : Mu} (h : mfr MSb MAb m m') (day : Int) (c : Nat) : clG m' day c = clG m day c := by
  unfold clG
  rw [clP_bk h, tkV_cg (h.1 97 (by decide)) (fun k hk => h.2 k (by rcases hk with rfl | rfl | rfl <;> decide))]
theorem bk_of {m m' : Mu} (h : mfr MS0 MA0 m m') : mfr MSb MAb m m' := mfr_up h (fun k hk => List.mem_append.mpr (Or.inr hk)) (fun k hk => List.mem_append.mpr (Or.inr hk))
theorem c_rows {G : CG} {L : Ly} {u : Sg} {m : Mu} (h : RC G L u m) {day : Int} (hday : w32 day = day) (hP : ∀ c : Nat, 1 ≤ c → (c : Int) ≤ m.1 87 → zA u (L.1 116) (c - 1) = clP m day c) : f0_close_l49 G (some (L.1 3)) day u NN 0 0 = some (clR m day (m.1 87).toNat) := by
  have hR := h.1
  have n0 := h.2.2.2.2.2.2.2.1
  have n40 := h.2.2.2.2.2.2.2.2.1
  obtain ⟨N, hN⟩ : ∃ N : Nat, m.1 87 = N := ⟨(m.1 87).toNat, by omega⟩
  have l116 := rL116 hR
  obtain ⟨-, -, -, -, s5, s6, s7, -⟩ := id h.2.1
  have key := loop_ind (fun q (i : Nat) => f0_close_l49 G (some (L.1 3)) day u q (clR m day i) (i : Int)) (fun i => N - i) (fun i => i ≤ N) (fun _ r => r = clR m day N) (by
    intro q i hi ih
    show ok (f0_close_l49 G (some (L.1 3)) day u (q + 1) (clR m day i) (i : Int)) _
    unfold f0_close_l49
    refine ok_eq (gfR_v (rT3 hR) (rR3_8 hR)) (ok_eq (ztg_e (cl_T h)) (ok_eq (cl_sz h) ?_))
    rw [show w32 (m.1 87) = (N : Int) by rw [hN]; exact w32_n (by omega), w32_n (by omega)]
    refine ok_ite (fun hz => ok_some (by rw [show i = N by omega])) (fun hz => ?_)
    have k1 : (1 : Nat) ≤ i + 1 := by omega
    have k2 : ((i + 1 : Nat) : Int) ≤ m.1 87 := by omega
    obtain ⟨b1, -, -, -, -, -, -, -, -, -, -, -, -, -, -, -, -, -, b19, b20, b21, b22, b23, b24⟩ := h.2.2.2.2.2.2.2.2.2.2.1 (i + 1) k1 k2
    obtain ⟨p1, p2, p3⟩ := clG_bd h hday (i + 1)
    have hp := hP (i + 1) k1 k2
    rw [show i + 1 - 1 = i by omega] at hp
    refine ok_eq (gfR_v (rT3 hR) (rR3_8 hR)) (ok_eq (ztg_e (cl_T h)) (ok_eq (cl_geti h k1 k2 (by omega)) (ok_eq (zcast_1 b1) (ok_eq (gfR_v (rT3 hR) (rR3_16 hR)) (ok_eq (alI_e i (rT116 hR) rfl (by omega) (by omega)) (ok_eq (gfI_v b1 b19) ?_))))))
    rw [hp, w32_id (x := clP m day (i + 1)) (by omega) (by omega), w32_id (x := m.2 107 (i + 1)) (by omega) (by omega)]
    have hrec := ih (i + 1) (by omega) (by omega)
    simp only [clR, clN] at hrec
    have fin : ∀ s1 : Int, s1 = (if clP m day (i + 1) = m.2 107 (i + 1) then 0 else 2) → ok (f0_close_b97 G (f0_close_l49 G (some (L.1 3)) day u q) (some (L.1 3)) day (i : Int) (some (L.1 (4000 + 8 * (i + 1)))) (clR m day i) s1 u) (fun r => r = clR m day N) := by
      intro s1 hs
      unfold f0_close_b97
      refine ok_eq (gfR_v (rT3 hR) (rR3_16 hR)) (ok_eq (alI_e i (rT116 hR) rfl (by omega) (by omega)) (ok_eq (gfR_v (rT3 hR) (rR3_16 hR)) (ok_eq (alI_e i (rT116 hR) rfl (by omega) (by omega)) (ok_eq (ztg_e (rT3 hR)) ?_))))
      rw [hp]
      refine ok_eq (c_taken h p1 ⟨by omega, by omega⟩) (ok_eq (gfI_v b1 b20) ?_)
      rw [show clP m day (i + 1) - tkV m (clP m day (i + 1)) (-1) = clG m day (i + 1) from rfl, w32_id (x := clG m day (i + 1)) (by omega) (by omega), w32_id (x := m.2 108 (i + 1)) (by omega) (by omega)]
      rw [← hs] at hrec
      refine ok_ite (fun q2 => ?_) (fun q2 => ?_)
      · rw [if_pos q2] at hrec; exact hrec
      · rw [if_neg q2] at hrec; exact hrec
    exact ok_ite (fun q1 => fin _ (by rw [if_pos q1])) (fun q1 => fin _ (by rw [if_neg q1]))) NN 0 (Nat.zero_le _) (NN_gt (by omega))
  obtain ⟨r, e, rfl⟩ := key
  rw [show (m.1 87).toNat = N by omega]
  exact e
theorem m_payc {G : CG} {L : Ly} {u : Sg} {m : Mu} (h : RC G L u m) {c : Nat} (c1 : 1 ≤ c) (c2 : (c : Int) ≤ m.1 87) {day : Int} (hday : w32 day = day) (hd : 0 ≤ day ∧ day ≤ 9999) : ∃ m', m5_pay c day m = some (clP m day c, m') ∧ mfr [] [76, 77, 95, 96] m m' := by
  obtain ⟨-, -, -, -, b5, -⟩ := h.2.2.2.2.2.2.2.2.2.2.1 c c1 c2
  obtain ⟨p, hp⟩ : ∃ p : Nat, m.2 88 c = p := ⟨(m.2 88 c).toNat, by omega⟩
  obtain ⟨m', e, s⟩ := m_pay h c1 c2 hp hday hd
  refine ⟨m', ?_, s⟩
  unfold clP
  rw [hp]; exact e
theorem m_rows {G : CG} {L : Ly} {u : Sg} {m : Mu} (h : RC G L u m) {day : Int} (hday : w32 day = day) (hd : 0 ≤ day ∧ day ≤ 9999) : ∃ m', m5_close_l22 day NN 0 1 m = some (clR m day (m.1 87).toNat, m') ∧ mfr [] [76, 77, 95, 96] m m' := by
  have n0 := h.2.2.2.2.2.2.2.1
  have n40 := h.2.2.2.2.2.2.2.2.1
  obtain ⟨N, hN⟩ : ∃ N : Nat, m.1 87 = N := ⟨(m.1 87).toNat, by omega⟩
  obtain ⟨-, -, -, -, s5, s6, s7, -⟩ := id h.2.1
  have key := loop_ind (fun q (s : Nat × Mu) => m5_close_l22 day q (clR m day s.1) ((s.1 : Int) + 1) s.2) (fun s => N - s.1) (fun s => s.1 ≤ N ∧ mfr [] [76, 77, 95, 96] m s.2) (fun _ r => r.1 = clR m day N ∧ mfr [] [76, 77, 95, 96] m r.2) (by
    rintro q ⟨i, t⟩ ⟨hi, fr⟩ ih
    dsimp only at hi fr ⊢
    show ok (m5_close_l22 day (q + 1) (clR m day i) ((i : Int) + 1) t) _
    unfold m5_close_l22
    rw [fr.1 87 (by simp), show w32 (m.1 87) = (N : Int) by rw [hN]; exact w32_n (by omega), w32_id (x := (i : Int) + 1) (by omega) (by omega)]
    refine ok_ite (fun hz => ok_some ⟨by rw [show i = N by omega], fr⟩) (fun hz => ?_)
    have k1 : (1 : Nat) ≤ i + 1 := by omega
    have k2 : ((i + 1 : Nat) : Int) ≤ m.1 87 := by omega
    obtain ⟨b1, -, -, -, -, -, -, -, -, -, -, -, -, -, -, -, -, -, b19, b20, b21, b22, b23, b24⟩ := h.2.2.2.2.2.2.2.2.2.2.1 (i + 1) k1 k2
    obtain ⟨p1, p2, p3⟩ := clG_bd h hday (i + 1)
    have ht := RC_msc h (MAp fr)
    obtain ⟨t2, e2, s2⟩ := m_payc ht (c := i + 1) k1 (by rw [fr.1 87 (by simp)]; exact k2) hday hd
    rw [clP_bk (bk_of (MAp fr))] at e2
    have f2 := mfr_tr fr s2
    have ei : (i : Int) + 1 = ((i + 1 : Nat) : Int) := by omega
    rw [ei]
    refine ok_eq e2 (ok_mald (i + 1) rfl (by omega) (by omega) ?_)
    dsimp only
    rw [f2.2 107 (by simp), w32_id (x := clP m day (i + 1)) (by omega) (by omega), w64_id (x := clP m day (i + 1)) (by omega) (by omega), w64_id (x := m.2 107 (i + 1)) (by omega) (by omega)]
    have hrec := ih (i + 1, t2) ⟨by show i + 1 ≤ N; omega, f2⟩ (by show N - (i + 1) < N - i; omega)
    simp only [clR, clN] at hrec
    rw [← Int.add_assoc] at hrec
    have fin : ∀ s1 : Int, s1 = (if clP m day (i + 1) = m.2 107 (i + 1) then 0 else 2) → ok (m5_close_b57 (m5_close_l22 day q) day ((i + 1 : Nat) : Int) (clP m day (i + 1)) (clR m day i) s1 t2) (fun r => r.1 = clR m day N ∧ mfr [] [76, 77, 95, 96] m r.2) := by
      intro s1 hs
      unfold m5_close_b57
      have ht2 := RC_msc h (MAp f2)
      have tk := m_takes ht2 (s := clP m day (i + 1)) (t := -1) p1 ⟨by omega, by rw [f2.1 97 (by simp)]; omega⟩
      rw [tkV_cg (f2.1 97 (by simp)) (fun k hk => f2.2 k (by simp; omega))] at tk
      refine ok_eq tk (ok_mald (i + 1) rfl (by omega) (by omega) ?_)
      rw [f2.2 108 (by simp), show clP m day (i + 1) - tkV m (clP m day (i + 1)) (-1) = clG m day (i + 1) from rfl, w64_id (x := clG m day (i + 1)) (by omega) (by omega), w64_id (x := m.2 108 (i + 1)) (by omega) (by omega)]
      rw [← hs] at hrec
      refine ok_ite (fun q2 => ?_) (fun q2 => ?_)
      · rw [if_pos q2] at hrec; exact hrec
      · rw [if_neg q2] at hrec; exact hrec
    exact ok_ite (fun q1 => fin _ (by rw [if_pos q1])) (fun q1 => fin _ (by rw [if_neg q1]))) NN (0, m) ⟨Nat.zero_le _, mfr_rf⟩ (NN_gt (by show N - 0 < 100000; omega))
  obtain ⟨⟨r1, r2⟩, e, rfl, k⟩ := key
  rw [show (m.1 87).toNat = N by omega]
  exact ⟨r2, e, k⟩
/-- two rows, or none -/
def bk2 (m : Mu) (x c a y1 b y2 d : Int) : Mu := if x = 0 then m else bkM (bkM m c a y1 d) c b y2 d
theorem bk2_fr {m : Mu} {x c a y1 b y2 d : Int} : mfr [102] [103, 104, 105, 106] m (bk2 m x c a y1 b y2 d) := by
  unfold bk2
  split
  · exact mfr_rf
  · exact mfr_tr bkM_fr bkM_fr
theorem bk2_n {m : Mu} {x c a y1 b y2 d : Int} : (bk2 m x c a y1 b y2 d).1 102 = m.1 102 + if x = 0 then 0 else 2 := by
  unfold bk2
  split
  · omega
  · rw [bkM_n, bkM_n]; omega
theorem cB {G : CG} {L : Ly} {u : Sg} {m : Mu} (h : RC G L u m) {c a b x y1 y2 d : Int} (ha : -2147483648 ≤ a ∧ a < 2147483648) (hb : -2147483648 ≤ b ∧ b < 2147483648) (h1 : -2147483648 ≤ y1 ∧ y1 < 2147483648) (h2 : -2147483648 ≤ y2 ∧ y2 < 2147483648) (hs : x ≠ 0 → m.1 102 + 2 ≤ 400) : ∃ u', (x = 0 → u' = u) ∧ (x ≠ 0 → ∃ u1, f0_book G (some (L.1 3)) c a y1 d u = some u1 ∧ f0_book G (some (L.1 3)) c b y2 d u1 = some u' ∧ Rt G u1 L) ∧ RC G L u' (bk2 m x c a y1 b y2 d) ∧ zA u' (L.1 116) = zA u (L.1 116) := by
  unfold bk2
  by_cases hx : x = 0
  · rw [if_pos hx]
    exact ⟨u, fun _ => rfl, fun z => absurd hx z, h, rfl⟩
  · rw [if_neg hx]
    have hs := hs hx
    obtain ⟨u1, e1, r1, k1⟩ := c_book h (c := c) (a := a) (v := y1) (d := d) (by omega) ha h1
    obtain ⟨u2, e2, r2, k2⟩ := c_book r1 (c := c) (a := b) (v := y2) (d := d) (by rw [bkM_n]; omega) hb h2
    exact ⟨u2, fun z => absurd z hx, fun _ => ⟨u1, e1, e2, r1.1⟩, r2, k2.trans k1⟩
theorem cl_step {G : CG} {L : Ly} {u : Sg} {m : Mu} (h : RC G L u m) {day : Int} (hday : w32 day = day) (hd : 0 ≤ day ∧ day ≤ 9999) {i : Nat} (hi : (i : Int) + 1 ≤ m.1 87) (hP : zA u (L.1 116) i = clP m day (i + 1)) (hroom : m.1 102 + clN m day (i + 1) ≤ 400) {v2 v2' : Int} : ∃ u' m', (∀ n k (R : Sg → Mu → Prop), sim (f0_close_l159 G (some (L.1 3)) day v2 n ((i : Int) + 1) u') (m5_close_l115 day v2' k ((i : Int) + 1 + 1) m') R → sim (f0_close_l159 G (some (L.1 3)) day v2 (n + 1) (i : Int) u) (m5_close_l115 day v2' (k + 1) ((i : Int) + 1) m) R) ∧ RC G L u' m' ∧ zA u' (L.1 116) = zA u (L.1 116) ∧ mfr MSb MAb m m' ∧ m'.1 102 = m.1 102 + clN m day (i + 1) ∧ (∀ k, k ≠ i + 1 → m'.2 107 k = m.2 107 k ∧ m'.2 108 k = m.2 108 k) ∧ m'.1 101 = m.1 101 := by
  have hR := h.1
  have n0 := h.2.2.2.2.2.2.2.1
  have n40 := h.2.2.2.2.2.2.2.2.1
  have k1 : (1 : Nat) ≤ i + 1 := by omega
  have k2 : ((i + 1 : Nat) : Int) ≤ m.1 87 := by omega
  have ei : (i : Int) + 1 = ((i + 1 : Nat) : Int) := by omega
  obtain ⟨-, -, -, -, s5, s6, s7, s8, s9, s10, -⟩ := id h.2.1
  obtain ⟨p1, p2, p3⟩ := clG_bd h hday (i + 1)
  obtain ⟨b1, b2, -, -, -, -, -, -, -, -, -, -, -, -, -, -, -, -, b19, b20, b21, b22, b23, b24⟩ := h.2.2.2.2.2.2.2.2.2.2.1 (i + 1) k1 k2
  obtain ⟨m1, em, sm⟩ := m_payc h (c := i + 1) k1 k2 hday hd
  have h1 := RC_msc h (MAp sm)
  have e107 : m1.2 107 (i + 1) = m.2 107 (i + 1) := by rw [sm.2 107 (by simp)]
  have e108 : m1.2 108 (i + 1) = m.2 108 (i + 1) := by rw [sm.2 108 (by simp)]
  have e102 : m1.1 102 = m.1 102 := sm.1 102 (by simp)
  obtain ⟨P, hPe⟩ : ∃ P, clP m day (i + 1) = P := ⟨_, rfl⟩
  obtain ⟨Q, hQe⟩ : ∃ Q, clG m day (i + 1) = Q := ⟨_, rfl⟩
  obtain ⟨A, hA⟩ : ∃ A, m.2 107 (i + 1) = A := ⟨_, rfl⟩
  obtain ⟨B, hB⟩ : ∃ B, m.2 108 (i + 1) = B := ⟨_, rfl⟩
  have hQ2 : P - tkV m P (-1) = Q := by rw [← hPe, ← hQe]; rfl
  have hN : clN m day (i + 1) = (if P = A then 0 else 2) + (if Q = B then 0 else 2) := by unfold clN; rw [hPe, hQe, hA, hB]
  rw [hPe] at em p1 p2 hP
  rw [hQe] at p3
  rw [hA] at b19 b21 b22 e107
  rw [hB] at b20 b23 b24 e108
  rw [hN] at hroom ⊢
  have r1 : P - A ≠ 0 → P ≠ A := fun z y => z (by omega)
  have r2 : Q - B ≠ 0 → Q ≠ B := fun z y => z (by omega)
  obtain ⟨ua, a1, a2, a3, a4⟩ := cB h1 (c := ((i + 1 : Nat) : Int)) (a := 0) (b := 1) (x := P - A) (y1 := A - P) (y2 := P - A) (d := day) (by omega) (by omega) (by omega) (by omega) (fun z => by rw [e102]; rw [if_neg (r1 z)] at hroom; split at hroom <;> omega)
  obtain ⟨ma1, hma1⟩ : ∃ x, bk2 m1 (P - A) ((i + 1 : Nat) : Int) 0 (A - P) 1 (P - A) day = x := ⟨_, rfl⟩
  have fr1 := bk2_fr (m := m1) (x := P - A) (c := ((i + 1 : Nat) : Int)) (a := 0) (y1 := A - P) (b := 1) (y2 := P - A) (d := day)
  have n1 := bk2_n (m := m1) (x := P - A) (c := ((i + 1 : Nat) : Int)) (a := 0) (y1 := A - P) (b := 1) (y2 := P - A) (d := day)
  rw [hma1] at a3 fr1 n1
  have n1 : ma1.1 102 = m.1 102 + if P = A then 0 else 2 := by
    rw [n1, e102]
    by_cases z : P = A
    · rw [if_pos z, if_pos (by omega)]
    · rw [if_neg z, if_neg (by omega)]
  obtain ⟨ub, c1, c2, c3, c4⟩ := cB a3 (c := ((i + 1 : Nat) : Int)) (a := 2) (b := 3) (x := Q - B) (y1 := Q - B) (y2 := B - Q) (d := day) (by omega) (by omega) (by omega) (by omega) (fun z => by rw [n1]; rw [if_neg (r2 z)] at hroom; omega)
  obtain ⟨mb, hmb⟩ : ∃ x, bk2 ma1 (Q - B) ((i + 1 : Nat) : Int) 2 (Q - B) 3 (B - Q) day = x := ⟨_, rfl⟩
  have fr2 := bk2_fr (m := ma1) (x := Q - B) (c := ((i + 1 : Nat) : Int)) (a := 2) (y1 := Q - B) (b := 3) (y2 := B - Q) (d := day)
  have n2 := bk2_n (m := ma1) (x := Q - B) (c := ((i + 1 : Nat) : Int)) (a := 2) (y1 := Q - B) (b := 3) (y2 := B - Q) (d := day)
  rw [hmb] at c3 fr2 n2
  have frm : mfr [102] [76, 77, 95, 96, 103, 104, 105, 106] m mb := mfr_tr (mfr_tr (mfr_up sm (by simp) (by simp)) (mfr_up fr1 (by simp) (by simp))) (mfr_up fr2 (by simp) (by simp))
  have rc := RC_set c3 (c := i + 1) k1 (by rw [frm.1 87 (by simp)]; exact k2) (x := P) (y := Q) p1 p3
  refine ⟨zsI (zsI ub (L.1 (4000 + 8 * (i + 1))) 845 P) (L.1 (4000 + 8 * (i + 1))) 846 Q, ma (ma mb 107 (i + 1) P) 108 (i + 1) Q, ?_, rc, ?_, ?_, ?_, ?_, ?_⟩
  · intro n k R hsim
    have hRa := a3.1
    have hRb := c3.1
    obtain ⟨d1, -, -, -, -, -, -, -, -, -, -, -, -, -, -, -, -, -, d19, d20, -⟩ := c3.2.2.2.2.2.2.2.2.2.2.1 (i + 1) k1 (by rw [frm.1 87 (by simp)]; exact k2)
    rw [frm.2 107 (by simp), hA] at d19
    rw [frm.2 108 (by simp), hB] at d20
    have l116 := rL116 hR
    unfold f0_close_l159 m5_close_l115
    refine sim_L (gfR_v (rT3 hR) (rR3_8 hR)) (sim_L (ztg_e (cl_T h)) (sim_L (cl_sz h) ?_))
    rw [w32_id (x := m.1 87) (by omega) (by omega), w32_n (by omega), w32_id (x := (i : Int) + 1) (by omega) (by omega)]
    refine sim_negL (by omega) (sim_negR (by omega) ?_)
    refine sim_L (gfR_v (rT3 hR) (rR3_8 hR)) (sim_L (ztg_e (cl_T h)) (sim_L (cl_geti h k1 k2 (by omega)) (sim_L (zcast_1 b1) (sim_L (gfR_v (rT3 hR) (rR3_16 hR)) (sim_L (alI_e i (rT116 hR) rfl (by omega) (by omega)) (sim_L (gfI_v b1 b19) (sim_L (gfR_v (rT3 hR) (rR3_16 hR)) (sim_L (alI_e i (rT116 hR) rfl (by omega) (by omega)) (sim_L (gfR_v (rT3 hR) (rR3_16 hR)) (sim_L (alI_e i (rT116 hR) rfl (by omega) (by omega)) (sim_L (ztg_e (rT3 hR)) ?_)))))))))))
    rw [hP]
    refine sim_L (c_taken h p1 ⟨by omega, by omega⟩) (sim_L (gfI_v b1 b20) ?_)
    rw [hQ2, w32_id (x := P - A) (by omega) (by omega)]
    rw [ei] at hsim ⊢
    have tk := m_takes h1 (s := P) (t := -1) p1 ⟨by omega, by rw [sm.1 97 (by simp)]; omega⟩
    rw [tkV_cg (sm.1 97 (by simp)) (fun k hk => sm.2 k (by simp; omega))] at tk
    refine sim_R em ?_
    dsimp only
    rw [w32_id (x := P) (by omega) (by omega)]
    refine sim_R tk (sim_mald (i + 1) rfl (by omega) (by omega) ?_)
    rw [e107, hQ2, w64_id (x := P) (by omega) (by omega), w64_id (x := A) (by omega) (by omega)]
    -- behind the first pair
    have ea : (ma ma1 107 (i + 1) P).2 108 (i + 1) = B := by rw [ma_o (by decide), fr1.2 108 (by simp), e108]
    have tail : sim (f0_close_b255 G (f0_close_l159 G (some (L.1 3)) day v2 n) (some (L.1 3)) day v2 (i : Int) (some (L.1 (4000 + 8 * (i + 1)))) (P - A) (Q - B) ua) (m5_close_b196 (m5_close_l115 day v2' k) day v2' ((i + 1 : Nat) : Int) Q (ma ma1 107 (i + 1) P)) R := by
      have last : sim (f0_close_b283 G (f0_close_l159 G (some (L.1 3)) day v2 n) (some (L.1 3)) day v2 (i : Int) (some (L.1 (4000 + 8 * (i + 1)))) (P - A) (Q - B) ub) (m5_close_l115 day v2' k (((i + 1 : Nat) : Int) + 1) (ma (ma mb 107 (i + 1) P) 108 (i + 1) Q)) R := by
        unfold f0_close_b283
        refine sim_L (gfI_v d1 d19) (sim_L (pfI_e d1 b2) (sim_L (a := B) (gfI_v d1 (by rw [zsI_I, if_neg (fun z => absurd z.2 (by decide))]; exact d20)) (sim_L (pfI_e d1 b2) ?_)))
        rw [show A + (P - A) = P by omega, show B + (Q - B) = Q by omega, ei]
        exact hsim
      unfold f0_close_b255 m5_close_b196
      rw [w32_id (x := Q - B) (by omega) (by omega)]
      refine sim_mald (i + 1) rfl (by omega) (by omega) ?_
      rw [ea, w64_id (x := Q) (by omega) (by omega), w64_id (x := B) (by omega) (by omega)]
      by_cases z : Q = B
      · have zz : Q - B = 0 := by omega
        rw [if_pos zz, if_pos z]
        have e1 := c1 zz
        have e2 : mb = ma1 := by rw [← hmb]; unfold bk2; rw [if_pos zz]
        rw [e1, e2] at last
        rw [ma_id (m := ma ma1 107 (i + 1) P) (by rw [ea, z])] at last
        exact last
      · have zz : Q - B ≠ 0 := by omega
        rw [if_neg zz, if_neg z]
        obtain ⟨u1, q1, q2, q3⟩ := c2 zz
        have zn : ¬ (Q = B) := z
        rw [if_neg zn] at hroom
        have na : (ma ma1 107 (i + 1) P).1 102 = m.1 102 + if P = A then 0 else 2 := n1
        have ep : 0 ≤ (if P = A then (0 : Int) else 2) := by split <;> omega
        refine sim_L (ztg_e (rT3 hRa)) (sim_L (by rw [ei]; exact q1) (sim_L (ztg_e (rT3 q3)) (sim_L (by rw [ei, show -(Q - B) = B - Q by omega]; exact q2) ?_)))
        refine sim_mald (i + 1) rfl (by omega) (by omega) ?_
        rw [ea]
        refine sim_R (m_book (by omega) (by omega) _ _ _ _) (sim_mald (i + 1) rfl (by omega) (by omega) ?_)
        rw [bkM_fr.2 108 (by simp), ea]
        refine sim_R (m_book (by rw [bkM_n]; omega) (by rw [bkM_n]; omega) _ _ _ _) (sim_mast (i + 1) rfl (by omega) (by omega) ?_)
        rw [bkM_ma (by decide), bkM_ma (by decide)]
        have e2 : mb = bkM (bkM ma1 ((i + 1 : Nat) : Int) 2 (Q - B) day) ((i + 1 : Nat) : Int) 3 (B - Q) day := by rw [← hmb]; unfold bk2; rw [if_neg zz]
        rw [← e2]
        exact last
    by_cases z : P = A
    · have zz : P - A = 0 := by omega
      rw [if_pos zz, if_pos z]
      have e1 := a1 zz
      have e2 : ma1 = m1 := by rw [← hma1]; unfold bk2; rw [if_pos zz]
      rw [e1, e2, ma_id (m := m1) (by rw [e107, z])] at tail
      exact tail
    · have zz : P - A ≠ 0 := by omega
      rw [if_neg zz, if_neg z]
      obtain ⟨u1, q1, q2, q3⟩ := a2 zz
      rw [if_neg z] at hroom
      have ep : 0 ≤ (if Q = B then (0 : Int) else 2) := by split <;> omega
      refine sim_L (ztg_e (rT3 hR)) (sim_L (by rw [show -(P - A) = A - P by omega]; exact q1) (sim_L (ztg_e (rT3 q3)) (sim_L q2 ?_)))
      refine sim_mald (i + 1) rfl (by omega) (by omega) ?_
      rw [e107]
      refine sim_R (m_book (by omega) (by omega) _ _ _ _) (sim_mald (i + 1) rfl (by omega) (by omega) ?_)
      rw [bkM_fr.2 107 (by simp), e107]
      refine sim_R (m_book (by rw [bkM_n]; omega) (by rw [bkM_n]; omega) _ _ _ _) (sim_mast (i + 1) rfl (by omega) (by omega) ?_)
      have e2 : ma1 = bkM (bkM m1 ((i + 1 : Nat) : Int) 0 (A - P) day) ((i + 1 : Nat) : Int) 1 (P - A) day := by rw [← hma1]; unfold bk2; rw [if_neg zz]
      rw [← e2]
      exact tail
  · show zA ub (L.1 116) = _
    rw [c4, a4]
  · exact mfr_ma (mfr_ma (mfr_up frm (by decide) (by decide)) (by decide)) (by decide)
  · show mb.1 102 = _
    rw [n2, n1]
    by_cases z : Q = B
    · rw [if_pos (show Q - B = 0 by omega), if_pos z]; omega
    · rw [if_neg (show ¬ Q - B = 0 by omega), if_neg z]; omega
  · intro k hk
    rw [ma_o (show 107 ≠ 108 by decide), ma_s, if_neg hk, ma_s, if_neg hk, ma_o (show 108 ≠ 107 by decide), frm.2 107 (by simp), frm.2 108 (by simp)]
    exact ⟨rfl, rfl⟩
  · show mb.1 101 = _
    exact frm.1 101 (by simp)
theorem o_close {G : CG} {L : Ly} {u : Sg} {m : Mu} (h : RC G L u m) (day : Int) (hday : w32 day = day) : sim (f0_close G (some (L.1 3)) day u) (m5_close day m) (aft G L) := by
  have n0 := h.2.2.2.2.2.2.2.1
  have n40 := h.2.2.2.2.2.2.2.2.1
  obtain ⟨s1, s2, s3, s4, s5, s6, s7, s8, s9, s10, s11, s12, s13, s14, s15, s16, s17, s18⟩ := id h.2.1
  unfold f0_close m5_close
  refine sim_L (c_isDay hday) (sim_R (m_isDay hday) (sim_test (fun _ => sim_some ⟨rfl, h⟩) (fun hd => ?_)))
  refine sim_L (gfI_e (rT3 h.1)) ?_
  rw [w32_id (x := zI u (L.1 3) 23) (by omega) (by omega), w32_id (x := m.1 101) (by omega) (by omega), hday]
  refine sim_ite (by omega) (fun k1 => ?_) (fun _ => sim_some ⟨rfl, h⟩)
  obtain ⟨u1, e1, f1, g1⟩ := c_each2 h hday
  have h1 := RC_scp h f1
  obtain ⟨m1, e2, f2⟩ := m_rows h hday hd
  have fb := bk_of (MAp f2)
  refine sim_L e1 (sim_L (c_rows h1 hday g1) (sim_R e2 ?_))
  obtain ⟨-, -, -, -, -, -, -, t8, -⟩ := id h1.2.1
  refine sim_L (gfI_v (rT3 h1.1) t8) ?_
  dsimp only
  rw [f2.1 102 (by simp)]
  have cb := clR_bd m day (m.1 87).toNat
  rw [w32_id (x := m.1 102 + clR m day (m.1 87).toNat) (by omega) (by omega)]
  have h2 := RC_msc h1 (MAp f2)
  refine sim_ite Iff.rfl (fun k2 => ?_) (fun _ => sim_some ⟨rfl, h2⟩)
  refine sim_L (pfI_e (rT3 h1.1) (rG3 h1.1)) (sim_S ?_)
  -- the day of closing
  have h3 : RC G L (zsI u1 (L.1 3) 23 day) (ms m1 101 day) := by
    obtain ⟨r1, r2, r3, r4, r5, r6, r7, r8, r9, r10, r11, r12, r13, r14, r15, r16, r17, r18⟩ := id h2.2.1
    refine RC_pl h2 (sc2_I sc2_rf (Or.inl (by rw [rC3 h1.1]; decide))) (mfr_ms mfr_rf (by decide)) ?_ ?_
    · simp [RS, zsI_I, ms_1]
      omega
    · exact RA_mm (m := m1) (fun k hk => by rw [ms_1, if_neg (fun z => by rw [z] at hk; revert hk; decide)]) (fun _ _ => rfl) h2.2.2.1
  obtain ⟨N, hN⟩ : ∃ N : Nat, m.1 87 = N := ⟨(m.1 87).toNat, by omega⟩
  have fb3 : mfr MSb MAb m (ms m1 101 day) := mfr_ms fb (by decide)
  have key := sim_loop (fun q (s : Nat × Sg) => f0_close_l159 G (some (L.1 3)) day (clR m day (m.1 87).toNat) q (s.1 : Int) s.2) (fun q (s : Mu × Nat) => m5_close_l115 day (clR m day (m.1 87).toNat) q ((s.2 : Int) + 1) s.1) (fun s _ => N - s.1) (fun s t => s.1 = t.2 ∧ s.1 ≤ N ∧ RC G L s.2 t.1 ∧ (∀ c : Nat, 1 ≤ c → (c : Int) ≤ m.1 87 → zA s.2 (L.1 116) (c - 1) = clP m day c) ∧ mfr MSb MAb m t.1 ∧ t.1.1 102 = m.1 102 + clR m day s.1 ∧ ∀ k, s.1 < k → t.1.2 107 k = m.2 107 k ∧ t.1.2 108 k = m.2 108 k) (fun a b => RC G L a b) (by
    rintro n k ⟨i, t⟩ ⟨w, i'⟩ ⟨hii, hi, ht, hA, fr, hn, hk⟩ ih
    dsimp only at hii hi ht hA fr hn hk ⊢
    subst hii
    show sim (f0_close_l159 G (some (L.1 3)) day (clR m day (m.1 87).toNat) (n + 1) (i : Int) t) (m5_close_l115 day (clR m day (m.1 87).toNat) (k + 1) ((i : Int) + 1) w) _
    by_cases hz : i = N
    · have e87 := fr.1 87 (by decide)
      unfold f0_close_l159 m5_close_l115
      refine sim_L (gfR_v (rT3 ht.1) (rR3_8 ht.1)) (sim_L (ztg_e (cl_T ht)) (sim_L (cl_sz ht) ?_))
      rw [w32_id (x := w.1 87) (by omega) (by omega), w32_n (by omega), w32_id (x := (i : Int) + 1) (by omega) (by omega)]
      exact sim_posL (by omega) (sim_posR (by omega) (sim_some ht))
    · have e87 := fr.1 87 (by decide)
      have hnx : clN w day (i + 1) = clN m day (i + 1) := by
        unfold clN
        rw [clP_bk fr, clG_bk fr, (hk (i + 1) (by omega)).1, (hk (i + 1) (by omega)).2]
      have mono : ∀ j, i + 1 ≤ j → clR m day (i + 1) ≤ clR m day j := by
        intro j
        induction j with
        | zero => intro z; omega
        | succ j ihj =>
          intro z
          by_cases zz : i + 1 = j + 1
          · rw [zz]; exact Int.le_refl _
          · have := ihj (by omega)
            have := clN_bd m day (j + 1)
            simp only [clR] at *
            omega
      have hm := mono (m.1 87).toNat (by omega)
      simp only [clR] at hm
      have hp := hA (i + 1) (by omega) (by omega)
      rw [show i + 1 - 1 = i by omega] at hp
      obtain ⟨t', w', hs, r1, r2, r3, r4, r5, r6⟩ := cl_step ht hday hd (i := i) (by omega) (by rw [hp, clP_bk fr]) (by rw [hnx, hn]; omega) (v2 := clR m day (m.1 87).toNat) (v2' := clR m day (m.1 87).toNat)
      refine hs n k _ ?_
      refine ih (i + 1, t') (w', i + 1) ⟨rfl, by show i + 1 ≤ N; omega, r1, fun c c1 c2 => by rw [r2]; exact hA c c1 c2, mfr_tr fr r3, ?_, fun k hk' => ?_⟩ (by show N - (i + 1) < N - i; omega)
      · dsimp only
        rw [r4, hn, hnx]; simp only [clR]; omega
      · dsimp only at hk'
        have := r5 k (by omega)
        rw [this.1, this.2]
        exact hk k (by omega)) NN NN (0, zsI u1 (L.1 3) 23 day) (ms m1 101 day, 0) ⟨rfl, Nat.zero_le _, h3, g1, fb3, by
          show (ms m1 101 day).1 102 = m.1 102 + 0
          rw [ms_1, if_neg (by decide), f2.1 102 (by simp)]; omega, fun k _ => by
          show m1.2 107 k = _ ∧ m1.2 108 k = _
          rw [f2.2 107 (by simp), f2.2 108 (by simp)]
          exact ⟨rfl, rfl⟩⟩ (NN_gt (by show N - 0 < 100000; omega)) (NN_gt (by show N - 0 < 100000; omega))
  refine sim_bind key (fun a b hab => sim_some ⟨rfl, hab⟩)

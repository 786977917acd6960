/-! CALLS that change what lies plain: treaty, count, size, type; balance -/
theorem zA_ne {s : Sg} {a j : Nat} {v : Int} {b : Nat} (h : b ≠ a) : zA (zsA s a j v) b = zA s b := by funext i; rw [zsA_A, if_neg (fun q => h q.1)]
theorem zI_ne {s : Sg} {a j : Nat} {v : Int} {b : Nat} (h : b ≠ a) : zI (zsI s a j v) b = zI s b := by funext i; rw [zsI_I, if_neg (fun q => h q.1)]
theorem treaty49 {G : CG} {L : Ly} {u : Sg} {m : Mu} (h : RC G L u m) {k a b : Int} (hk : k = 0 ∨ k = 1) (ha : 0 ≤ a ∧ a ≤ (if k = 0 then 1000 else 99999999)) (hb : k = 1 → 0 ≤ b ∧ b ≤ 99999999) : sim (f0_treaty_b49 G (some (L.1 3)) k a b u) (m5_treaty_b49 k a b m) (aft G L) := by
  have h0 := h
  obtain ⟨hR, hS, hA, -⟩ := h
  obtain ⟨s1, s2, s3, s4, s5, s6, s7, s8, s9, s10, s11, s12, s13, s14, s15, s16, s17, s18⟩ := hS
  unfold f0_treaty_b49 m5_treaty_b49
  refine sim_L (gfI_v (rT3 hR) s5) (sim_ite Iff.rfl (fun _ => sim_some ⟨rfl, h0⟩) (fun hc => ?_))
  rw [w32_id (by omega) (by omega)] at hc
  obtain ⟨t, ht⟩ : ∃ t : Nat, m.1 97 = t := ⟨(m.1 97).toNat, by omega⟩
  rw [ht] at s5 s6 s7 hc
  have n0 : ∀ r : Nat, L.2 (L.1 r) = r → r ≠ 3 → L.1 r ≠ L.1 3 := fun r e h => rne e (rC3 hR) h
  have n1 := rne (rC110 hR) (rC109 hR) (by decide)
  have n2 := rne (rC111 hR) (rC109 hR) (by decide)
  have n3 := rne (rC111 hR) (rC110 hR) (by decide)
  refine sim_L (gfR_v (rT3 hR) (rR3_9 hR)) (sim_L (gfI_v (rT3 hR) s5) (sim_L (asI_e t (rT109 hR) (rG109 hR) rfl (by rw [rL109 hR]; omega) (by rw [rL109 hR]; omega)) ?_))
  refine sim_L (gfR_v (rT3 hR) (rR3_10 hR)) (sim_L (gfI_v (rT3 hR) s5) (sim_L (asI_e t (rT110 hR) (rG110 hR) rfl (by show t < zL u (L.1 110); rw [rL110 hR]; omega) (by show zL u (L.1 110) ≤ _; rw [rL110 hR]; omega)) ?_))
  refine sim_L (gfR_v (rT3 hR) (rR3_11 hR)) (sim_L (gfI_v (rT3 hR) s5) (sim_L (asI_e t (rT111 hR) (rG111 hR) rfl (by show t < zL u (L.1 111); rw [rL111 hR]; omega) (by show zL u (L.1 111) ≤ _; rw [rL111 hR]; omega)) ?_))
  refine sim_L (gfI_v (rT3 hR) s5) (sim_L (pfI_e (rT3 hR) (rG3 hR)) ?_)
  refine sim_mast t ht (by omega) (by omega) (sim_mast t ht (by omega) (by omega) (sim_mast t ht (by omega) (by omega) (sim_S (sim_some ⟨?_, ?_⟩))))
  · show (t : Int) = (ms _ 97 _).1 97 - 1
    rw [ms_1, if_pos rfl]
    show (t : Int) = m.1 97 + 1 - 1
    omega
  · refine RC_pl h0 ?_ ?_ ?_ ?_
    · exact sc2_I (sc2_A (sc2_A (sc2_A sc2_rf (by rw [rC109 hR]; decide)) (by rw [rC110 hR]; decide)) (by rw [rC111 hR]; decide)) (Or.inl (by rw [rC3 hR]; decide))
    · exact mfr_ms (mfr_ma (mfr_ma (mfr_ma mfr_rf (by decide)) (by decide)) (by decide)) (by decide)
    · simp [RS, zsI_I, zsA_I, ms_1, ma_1]
      omega
    · have kA : ∀ r, L.2 (L.1 r) = r → r ≠ 109 → r ≠ 110 → r ≠ 111 → zA (zsI (zsA (zsA (zsA u (L.1 109) t k) (L.1 110) t a) (L.1 111) t b) (L.1 3) 12 ((t : Int) + 1)) (L.1 r) = zA u (L.1 r) := by
        intro r e q1 q2 q3
        rw [zsI_A, zA_ne (rne e (rC111 hR) q3), zA_ne (rne e (rC110 hR) q2), zA_ne (rne e (rC109 hR) q1)]
      unfold RA
      rw [kA 101 (rC101 hR) (by decide) (by decide) (by decide), kA 118 (rC118 hR) (by decide) (by decide) (by decide), kA 119 (rC119 hR) (by decide) (by decide) (by decide), kA 120 (rC120 hR) (by decide) (by decide) (by decide), kA 121 (rC121 hR) (by decide) (by decide) (by decide), kA 125 (rC125 hR) (by decide) (by decide) (by decide), kA 127 (rC127 hR) (by decide) (by decide) (by decide), kA 128 (rC128 hR) (by decide) (by decide) (by decide), kA 100 (rC100 hR) (by decide) (by decide) (by decide)]
      obtain ⟨a1, a2, a3⟩ := hA
      refine ⟨a1, fun i hi => ?_, a3⟩
      have hi : (i : Int) < m.1 97 + 1 := hi
      by_cases hit : i = t
      · subst hit
        simp [zsI_A, zsA_A, ms_2, ma_2, va_up_e, n1, n2, n3, n1.symm, n2.symm, n3.symm]
        exact ⟨hk, ha.1, ha.2, hb⟩
      · have := a2 i (by omega)
        simp [zsI_A, zsA_A, ms_2, ma_2, va_up_e, n1, n2, n3, n1.symm, n2.symm, n3.symm, hit]
        exact this
theorem o_treaty {G : CG} {L : Ly} {u : Sg} {m : Mu} (h : RC G L u m) (k a b : Int) (hk : w32 k = k) (ha : w32 a = a) (hb : w32 b = b) : sim (f0_treaty G (some (L.1 3)) k a b u) (m5_treaty k a b m) (aft G L) := by
  unfold f0_treaty m5_treaty f0_treaty_b27 m5_treaty_b27
  rw [hk, ha, hb]
  refine sim_ite Iff.rfl (fun _ => sim_some ⟨rfl, h⟩) (fun h1 => ?_)
  refine sim_ite Iff.rfl (fun _ => sim_some ⟨rfl, h⟩) (fun h2 => ?_)
  refine sim_ite Iff.rfl (fun _ => sim_some ⟨rfl, h⟩) (fun h3 => ?_)
  have w1 : w32 1000 = 1000 := rfl
  have w2 : w32 99999999 = 99999999 := rfl
  rw [w1, w2]
  refine sim_ite Iff.rfl (fun h4 => ?_) (fun h4 => ?_)
  · refine sim_ite Iff.rfl (fun _ => sim_some ⟨rfl, h⟩) (fun h5 => ?_)
    refine sim_negL (by omega) (sim_negR (by omega) ?_)
    exact treaty49 h (by omega) ⟨by omega, by rw [if_pos h4]; omega⟩ (fun q => by omega)
  · refine sim_ite Iff.rfl (fun _ => sim_some ⟨rfl, h⟩) (fun h5 => ?_)
    refine sim_posL (by omega) (sim_posR (by omega) ?_)
    refine sim_ite Iff.rfl (fun _ => sim_some ⟨rfl, h⟩) (fun h6 => ?_)
    refine sim_ite Iff.rfl (fun h7 => ?_) (fun _ => sim_some ⟨rfl, h⟩)
    exact treaty49 h (by omega) ⟨by omega, by rw [if_neg h4]; omega⟩ (fun q => by omega)
theorem o_balance {G : CG} {L : Ly} {u : Sg} {m : Mu} (h : RC G L u m) (v : Int) : sim (f0_balance G (some (L.1 3)) v u) (m5_balance v m) same1 := by
  obtain ⟨hR, hS, hA, -⟩ := h
  obtain ⟨s1, s2, s3, s4, s5, s6, s7, s8, s9, s10, -⟩ := hS
  unfold f0_balance m5_balance
  refine sim_bind (Q := same1) ?_ (fun a b q => sim_some q)
  refine sim_loop (fun n (s : Int × Nat) => f0_balance_l5 G (some (L.1 3)) v u n s.1 s.2) (fun n (s : Int × Nat) => m5_balance_l5 v m n s.1 s.2) (fun s _ => 400 - s.2) (fun s t => s = t ∧ s.2 ≤ 400) same1 ?_ NN NN (0, 0) (0, 0) ⟨rfl, Nat.zero_le _⟩ (NN_gt (by decide)) (NN_gt (by decide))
  rintro n k ⟨x, i⟩ t ⟨rfl, hi⟩ ih
  show sim (f0_balance_l5 G (some (L.1 3)) v u (n + 1) x i) (m5_balance_l5 v m (k + 1) x i) _
  unfold f0_balance_l5 m5_balance_l5
  simp only at hi
  refine sim_L (gfI_v (rT3 hR) s8) ?_
  rw [w32_n (by omega), w32_id (x := m.1 102) (by omega) (by omega)]
  refine sim_ite Iff.rfl (fun _ => sim_some rfl) (fun hc => ?_)
  have hb := hA.2.2.1 i (by omega)
  have step : sim (f0_balance_b30 G (f0_balance_l5 G (some (L.1 3)) v u n) (some (L.1 3)) v x i u) (m5_balance_b30 (m5_balance_l5 v m k) v x i m) same1 := by
    unfold f0_balance_b30 m5_balance_b30
    refine sim_L (gfR_v (rT3 hR) (rR3_20 hR)) (sim_L (alI_e i (rT120 hR) rfl (by rw [rL120 hR]; omega) (by rw [rL120 hR]; omega)) (sim_mald i rfl (by omega) (by omega) ?_))
    rw [hb.2.2.1]
    exact ih (_, i + 1) (_, i + 1) ⟨rfl, by show i + 1 ≤ 400; omega⟩ (by show 400 - (i + 1) < 400 - i; omega)
  refine sim_ite Iff.rfl (fun _ => step) (fun _ => ?_)
  refine sim_L (gfR_v (rT3 hR) (rR3_19 hR)) (sim_L (alI_e i (rT119 hR) rfl (by rw [rL119 hR]; omega) (by rw [rL119 hR]; omega)) (sim_mald i rfl (by omega) (by omega) ?_))
  rw [hb.2.1]
  refine sim_ite Iff.rfl (fun _ => step) (fun _ => ?_)
  exact ih (_, i + 1) (_, i + 1) ⟨rfl, by show i + 1 ≤ 400; omega⟩ (by show 400 - (i + 1) < 400 - i; omega)
theorem o_count {G : CG} {L : Ly} {u : Sg} {m : Mu} (h : RC G L u m) (k v : Int) (hk : w32 k = k) (hv : w32 v = v) : sim (f0_count G (some (L.1 3)) k v u) (m5_count k v m) (aft G L) := by
  have h0 := h
  obtain ⟨hR, hS, hA, -⟩ := h
  obtain ⟨s1, s2, s3, s4, s5, s6, s7, s8, s9, s10, s11, s12, s13, s14, s15, s16, s17, s18⟩ := hS
  unfold f0_count m5_count
  rw [hk, hv]
  refine sim_ite Iff.rfl (fun _ => sim_some ⟨rfl, h0⟩) (fun h1 => ?_)
  refine sim_ite Iff.rfl (fun _ => sim_some ⟨rfl, h0⟩) (fun h2 => ?_)
  refine sim_ite Iff.rfl (fun _ => sim_some ⟨rfl, h0⟩) (fun h3 => ?_)
  refine sim_ite Iff.rfl (fun h4 => ?_) (fun _ => sim_some ⟨rfl, h0⟩)
  obtain ⟨t, rfl⟩ : ∃ t : Nat, k = t := ⟨k.toNat, by omega⟩
  obtain ⟨a1, a2, a3, a4, a5, a6, a7, a8⟩ := hA
  refine sim_L (gfR_v (rT3 hR) (rR3_27 hR)) (sim_L (alI_e t (rT127 hR) rfl (by rw [rL127 hR]; omega) (by rw [rL127 hR]; omega)) (sim_L (gfR_v (rT3 hR) (rR3_27 hR)) (sim_L (asI_e t (rT127 hR) (rG127 hR) rfl (by rw [rL127 hR]; omega) (by rw [rL127 hR]; omega)) (sim_L (pfI_e (rT3 hR) (rG3 hR)) ?_))))
  refine sim_mald t rfl (by omega) (by omega) (sim_mast t rfl (by omega) (by omega) (sim_S (sim_some ⟨(a6 t (by omega)).1, ?_⟩)))
  refine RC_pl h0 ?_ ?_ ?_ ?_
  · exact sc2_I (sc2_A sc2_rf (by rw [rC127 hR]; decide)) (Or.inl (by rw [rC3 hR]; decide))
  · exact mfr_ms (mfr_ma mfr_rf (by decide)) (by decide)
  · simp [RS, zsI_I, zsA_I, ms_1, ma_1]
    omega
  · have kA : ∀ r, L.2 (L.1 r) = r → r ≠ 127 → zA (zsI (zsA u (L.1 127) t v) (L.1 3) 31 0) (L.1 r) = zA u (L.1 r) := by
      intro r e q1
      rw [zsI_A, zA_ne (rne e (rC127 hR) q1)]
    unfold RA
    rw [kA 101 (rC101 hR) (by decide), kA 109 (rC109 hR) (by decide), kA 110 (rC110 hR) (by decide), kA 111 (rC111 hR) (by decide), kA 118 (rC118 hR) (by decide), kA 119 (rC119 hR) (by decide), kA 120 (rC120 hR) (by decide), kA 121 (rC121 hR) (by decide), kA 125 (rC125 hR) (by decide), kA 128 (rC128 hR) (by decide), kA 100 (rC100 hR) (by decide)]
    refine ⟨a1, a2, a3, a4, a5, fun i hi => ?_, fun q => ?_, a8⟩
    · by_cases hit : i = t
      · subst hit
        simp [zsI_A, zsA_A, ms_2, ma_2, va_up_e]
        omega
      · have := a6 i hi
        simp [zsI_A, zsA_A, ms_2, ma_2, va_up_e, hit]
        exact this
    · rw [ms_1, if_pos rfl] at q; cases q
theorem sum_upd (f : Nat → Int) (t : Nat) (v : Int) : ∀ n, t < n → ((List.range n).map (va_up f t v)).sum = ((List.range n).map f).sum + (v - f t) := by
  intro n
  induction n with
  | zero => intro h; omega
  | succ n ih =>
    intro h
    rw [List.range_succ, List.map_append, List.map_append, List.sum_append, List.sum_append]
    simp only [List.map_cons, List.map_nil, List.sum_cons, List.sum_nil]
    by_cases ht : t = n
    · subst ht
      have e : (List.range t).map (va_up f t v) = (List.range t).map f := by
        apply List.map_congr_left
        intro i hi
        rw [List.mem_range] at hi
        rw [va_up_e, if_neg (by omega)]
      rw [e, va_up_e, if_pos rfl]
      omega
    · rw [ih (by omega), va_up_e, if_neg (fun q => ht q.symm)]
      omega
theorem sum_nn (f : Nat → Int) (t : Nat) : ∀ n, (∀ i, i < n → 0 ≤ f i) → t < n → f t ≤ ((List.range n).map f).sum := by
  intro n
  induction n with
  | zero => intro _ h; omega
  | succ n ih =>
    intro hp h
    rw [List.range_succ, List.map_append, List.sum_append]
    simp only [List.map_cons, List.map_nil, List.sum_cons, List.sum_nil]
    have h1 := hp n (by omega)
    by_cases ht : t = n
    · subst ht
      have : 0 ≤ ((List.range t).map f).sum := by
        clear ih h h1
        have hp : ∀ i, i < t → 0 ≤ f i := fun i hi => hp i (by omega)
        induction t with
        | zero => simp
        | succ t ih =>
          rw [List.range_succ, List.map_append, List.sum_append]
          simp only [List.map_cons, List.map_nil, List.sum_cons, List.sum_nil]
          have := ih (fun i hi => hp i (by omega)) (fun i hi => hp i (by omega))
          have := hp t (by omega)
          omega
      omega
    · have := ih (fun i hi => hp i (by omega)) (by omega)
      omega
theorem o_size {G : CG} {L : Ly} {u : Sg} {m : Mu} (h : RC G L u m) (k v : Int) (hk : w32 k = k) (hv : w32 v = v) : sim (f0_size G (some (L.1 3)) k v u) (m5_size k v m) (aft G L) := by
  have h0 := h
  obtain ⟨hR, hS, hA, -⟩ := h
  obtain ⟨s1, s2, s3, s4, s5, s6, s7, s8, s9, s10, s11, s12, s13, s14, s15, s16, s17, s18⟩ := hS
  unfold f0_size m5_size
  rw [hk, hv]
  refine sim_ite Iff.rfl (fun _ => sim_some ⟨rfl, h0⟩) (fun h1 => ?_)
  refine sim_ite Iff.rfl (fun _ => sim_some ⟨rfl, h0⟩) (fun h2 => ?_)
  refine sim_ite Iff.rfl (fun _ => sim_some ⟨rfl, h0⟩) (fun h3 => ?_)
  refine sim_ite Iff.rfl (fun h4 => ?_) (fun _ => sim_some ⟨rfl, h0⟩)
  obtain ⟨t, rfl⟩ : ∃ t : Nat, k = t := ⟨k.toNat, by omega⟩
  obtain ⟨a1, a2, a3, a4, a5, a6, a7, a8⟩ := hA
  obtain ⟨b1, b2, b3⟩ := a4 t (by omega)
  refine sim_L (gfR_v (rT3 hR) (rR3_25 hR)) (sim_L (alI_e t (rT125 hR) rfl (by rw [rL125 hR]; omega) (by rw [rL125 hR]; omega)) (sim_L (gfI_v (rT3 hR) s14) ?_))
  rw [b1]
  refine sim_mald t rfl (by omega) (by omega) (sim_ite Iff.rfl (fun h5 => ?_) (fun _ => sim_some ⟨rfl, h0⟩))
  rw [w32_id (by omega) (by omega)] at h5
  refine sim_L (gfR_v (rT3 hR) (rR3_25 hR)) (sim_L (asI_e t (rT125 hR) (rG125 hR) rfl (by rw [rL125 hR]; omega) (by rw [rL125 hR]; omega)) (sim_L (gfI_v (rT3 hR) s14) (sim_L (pfI_e (show zT u (L.1 3) = 1 from rT3 hR) (rG3 hR)) (sim_L (pfI_e (show zT u (L.1 3) = 1 from rT3 hR) (rG3 hR)) ?_))))
  refine sim_mald t rfl (by omega) (by omega) (sim_S (sim_mast t rfl (by omega) (by omega) (sim_S (sim_some ⟨rfl, ?_⟩))))
  refine RC_pl h0 ?_ ?_ ?_ ?_
  · exact sc2_I (sc2_I (sc2_A sc2_rf (by rw [rC125 hR]; decide)) (Or.inl (by rw [rC3 hR]; decide))) (Or.inl (by rw [rC3 hR]; decide))
  · exact mfr_ms (mfr_ma (mfr_ms mfr_rf (by decide)) (by decide)) (by decide)
  · have := sum_nn (fun i => m.2 109 i) t 401 (fun i hi => (a4 i hi).2.1) (by omega)
    rw [a5] at this
    simp [RS, zsI_I, zsA_I, ms_1, ma_1]
    omega
  · have kA : ∀ r, L.2 (L.1 r) = r → r ≠ 125 → zA (zsI (zsI (zsA u (L.1 125) t v) (L.1 3) 26 (m.1 111 + (v - m.2 109 t))) (L.1 3) 31 0) (L.1 r) = zA u (L.1 r) := by
      intro r e q1
      rw [zsI_A, zsI_A, zA_ne (rne e (rC125 hR) q1)]
    unfold RA
    rw [kA 101 (rC101 hR) (by decide), kA 109 (rC109 hR) (by decide), kA 110 (rC110 hR) (by decide), kA 111 (rC111 hR) (by decide), kA 118 (rC118 hR) (by decide), kA 119 (rC119 hR) (by decide), kA 120 (rC120 hR) (by decide), kA 121 (rC121 hR) (by decide), kA 127 (rC127 hR) (by decide), kA 128 (rC128 hR) (by decide), kA 100 (rC100 hR) (by decide)]
    refine ⟨a1, a2, a3, fun i hi => ?_, ?_, a6, fun q => ?_, a8⟩
    · by_cases hit : i = t
      · subst hit
        simp [zsI_A, zsA_A, ms_2, ma_2, va_up_e]
        omega
      · have := a4 i hi
        simp [zsI_A, zsA_A, ms_2, ma_2, va_up_e, hit]
        exact this
    · show ((List.range 401).map (va_up (m.2 109) t v)).sum = m.1 111 + (v - m.2 109 t)
      rw [sum_upd _ _ _ 401 (by omega), ← a5]
    · rw [ms_1, if_pos rfl] at q; cases q

/-! THE CALL type -/
theorem w8_toInt (b : BitVec 64) : w8 b.toInt = w8 (b.toNat : Int) := by
  rw [BitVec.toInt_eq_toNat_cond]
  split
  · rfl
  · unfold w8; omega
theorem w8_mod {a b : Nat} (h : a % 256 = b % 256) : w8 (a : Int) = w8 (b : Int) := by unfold w8; omega
theorem su64 : ∀ k : Nat, k < 64 → (((jI (k : Int)).toInt64.toUInt64 &&& Int64.toUInt64 63).toBitVec % 64).toNat = k := by decide +kernel
theorem byte_shr (v : Int) (k : Nat) (hk : k ≤ 7) : w8 (shr64 v (8 * (k : Int))) = w8 (ushr64 v (8 * (k : Int))) := by
  have e8 : (8 * (k : Int)) = ((8 * k : Nat) : Int) := by omega
  rw [e8]
  have e1 : shr64 v ((8 * k : Nat) : Int) = ((jL v).toBitVec.sshiftRight (8 * k)).toInt := by
    unfold shr64
    show ((jL v).toBitVec.sshiftRight' (((jI ((8 * k : Nat) : Int)).toInt64 &&& 63).toBitVec.smod 64)).toInt = _
    rw [BitVec.sshiftRight_eq', sm64 (8 * k) (by omega)]
  have e2 : ushr64 v ((8 * k : Nat) : Int) = ((jL v).toBitVec >>> (8 * k)).toInt := by
    unfold ushr64
    show ((jL v).toBitVec >>> (((jI ((8 * k : Nat) : Int)).toInt64.toUInt64 &&& Int64.toUInt64 63).toBitVec % 64)).toInt = _
    rw [BitVec.ushiftRight_eq', su64 (8 * k) (by omega)]
  rw [e1, e2, w8_toInt, w8_toInt]
  refine w8_mod ?_
  refine Nat.eq_of_testBit_eq (fun i => ?_)
  rw [show 256 = 2 ^ 8 from rfl, Nat.testBit_mod_two_pow, Nat.testBit_mod_two_pow]
  by_cases hi : i < 8
  · simp only [hi, decide_true, Bool.true_and]
    rw [BitVec.testBit_toNat, BitVec.testBit_toNat, BitVec.getLsbD_sshiftRight, BitVec.getLsbD_ushiftRight, if_pos (by omega)]
    simp
    omega
  · simp [hi]
theorem o_type {G : CG} {L : Ly} {u : Sg} {m : Mu} (h : RC G L u m) (v n : Int) (hn : w32 n = n) : sim (f0_type G (some (L.1 3)) v n u) (m5_type v n m) (fun a b => aft G L a b ∧ b.2.1 2 ≤ m.1 2 + 8) := by
  have hs := h.2.1
  obtain ⟨s1, s2, s3, -⟩ := hs
  unfold f0_type m5_type m5_type_b22
  rw [hn]
  refine sim_ite Iff.rfl (fun _ => sim_some ⟨⟨rfl, h⟩, by show m.1 2 ≤ _; omega⟩) (fun h1 => ?_)
  refine sim_ite Iff.rfl (fun h2 => ?_) (fun _ => sim_some ⟨⟨rfl, h⟩, by show m.1 2 ≤ _; omega⟩)
  have key : ∀ j : Nat, j ≤ 8 → ∀ (u : Sg) (m1 : Mu), RC G L u m1 → m1.1 2 + j ≤ 4000 → sim (f0_type_l44 G (some (L.1 3)) v NN ((j : Int) - 1) u) (m5_type_l42 v NN ((j : Int) - 1) m1) (fun a b => RC G L a b ∧ b.1 2 = m1.1 2 + j) := by
    intro j hj u m1 hr hb
    have := sim_loop (fun n (s : Nat × Sg) => f0_type_l44 G (some (L.1 3)) v n ((s.1 : Int) - 1) s.2) (fun n (s : Nat × Mu) => m5_type_l42 v n ((s.1 : Int) - 1) s.2) (fun s _ => s.1) (fun s t => s.1 = t.1 ∧ s.1 ≤ 8 ∧ RC G L s.2 t.2 ∧ t.2.1 2 + t.1 = m1.1 2 + j) (fun a b => RC G L a b ∧ b.1 2 = m1.1 2 + j) ?_ NN NN (j, u) (j, m1) ⟨rfl, hj, hr, rfl⟩ (NN_gt (by show j < 100000; omega)) (NN_gt (by show j < 100000; omega))
    · exact this
    rintro n k ⟨i, u⟩ ⟨i2, m⟩ ⟨hi, h8, hr, hb2⟩ ih
    simp only at hi h8 hr hb2
    subst hi
    show sim (f0_type_l44 G (some (L.1 3)) v (n + 1) ((i : Int) - 1) u) (m5_type_l42 v (k + 1) ((i : Int) - 1) m) _
    have h0 := hr
    obtain ⟨hR, hS, hA, -⟩ := hr
    obtain ⟨s1, s2, s3, s4, s5, s6, s7, s8, s9, s10, s11, s12, s13, s14, s15, s16, s17, s18⟩ := hS
    unfold f0_type_l44 m5_type_l42
    rw [w32_id (by omega) (by omega)]
    refine sim_ite Iff.rfl (fun hc => sim_some ⟨h0, by omega⟩) (fun hc => ?_)
    obtain ⟨t, ht⟩ : ∃ t : Nat, m.1 2 = t := ⟨(m.1 2).toNat, by omega⟩
    have ht2 : zI u (L.1 3) 2 = (t : Int) := by omega
    have t1 : zT u (L.1 101) = 102 := rT101 hR
    refine sim_L (gfR_v (rT3 hR) (rR3_1 hR)) (sim_L (gfI_v (rT3 hR) ht2) (sim_L (pfI_e (rT3 hR) (rG3 hR)) (sim_L (asI_e t (show zT (zsI u (L.1 3) 2 ((t : Int) + 1)) (L.1 101) = 100 + 2 from t1) (rG101 hR) rfl (by show t < zL u (L.1 101); rw [rL101 hR]; omega) (by show zL u (L.1 101) ≤ _; rw [rL101 hR]; omega)) ?_)))
    refine sim_mast t ht (by omega) (by omega) (sim_S ?_)
    have hi1 : ((i : Int) - 1) = ((i - 1 : Nat) : Int) := by omega
    have hb8 : w8 (w8 (shr64 v (8 * ((i : Int) - 1)))) = w8 (w8 (ushr64 v (8 * ((i : Int) - 1)))) := by
      rw [hi1, byte_shr v (i - 1) (by omega)]
    rw [hb8, show ((i : Int) - 1 + -1) = ((i - 1 : Nat) : Int) - 1 by omega]
    generalize w8 (w8 (ushr64 v (8 * ((i : Int) - 1)))) = x
    refine ih (i - 1, _) (i - 1, _) ⟨rfl, by show i - 1 ≤ 8; omega, ?_, ?_⟩ (by show i - 1 < i; omega)
    · show RC G L (zsA (zsI u (L.1 3) 2 ((t : Int) + 1)) (L.1 101) t x) (ms (ma m 1 t x) 2 ((ma m 1 t x).1 2 + 1))
      refine RC_pl h0 ?_ ?_ ?_ ?_
      · exact sc2_A (sc2_I sc2_rf (Or.inl (by rw [rC3 hR]; decide))) (by rw [rC101 hR]; decide)
      · exact mfr_ms (mfr_ma mfr_rf (by decide)) (by decide)
      · simp [RS, zsI_I, zsA_I, ms_1, ma_1]
        omega
      · have kA : ∀ r, L.2 (L.1 r) = r → r ≠ 101 → zA (zsA (zsI u (L.1 3) 2 ((t : Int) + 1)) (L.1 101) t x) (L.1 r) = zA u (L.1 r) := by
          intro r e q1
          rw [zA_ne (rne e (rC101 hR) q1), zsI_A]
        unfold RA
        rw [kA 109 (rC109 hR) (by decide), kA 110 (rC110 hR) (by decide), kA 111 (rC111 hR) (by decide), kA 118 (rC118 hR) (by decide), kA 119 (rC119 hR) (by decide), kA 120 (rC120 hR) (by decide), kA 121 (rC121 hR) (by decide), kA 125 (rC125 hR) (by decide), kA 127 (rC127 hR) (by decide), kA 128 (rC128 hR) (by decide), kA 100 (rC100 hR) (by decide)]
        refine ⟨fun j hj => ?_, hA.2⟩
        have hj : (j : Int) < m.1 2 + 1 := hj
        by_cases hit : j = t
        · subst hit
          simp [zsI_A, zsA_A, ms_2, ma_2, va_up_e]
        · have := hA.1 j (by omega)
          simp [zsI_A, zsA_A, ms_2, ma_2, va_up_e, hit]
          exact this
    · show m.1 2 + 1 + ((i - 1 : Nat) : Int) = _
      omega
  by_cases h3 : n = 0
  · refine sim_posL h3 (sim_posR h3 ?_)
    have hR := h.1
    have hr' : RC G L (zsI u (L.1 3) 2 0) (ms m 2 0) := by
      have hS := h.2.1
      have hA := h.2.2.1
      refine RC_pl h ?_ ?_ ?_ ?_
      · exact sc2_I sc2_rf (Or.inl (by rw [rC3 hR]; decide))
      · exact mfr_ms mfr_rf (by decide)
      · obtain ⟨s1, s2, s3, s4, s5, s6, s7, s8, s9, s10, s11, s12, s13, s14, s15, s16, s17, s18⟩ := hS
        simp [RS, zsI_I, zsA_I, ms_1, ma_1]
        omega
      · refine ⟨fun j hj => ?_, hA.2⟩
        rw [ms_1, if_pos rfl] at hj
        omega
    refine sim_L (pfI_e (rT3 hR) (rG3 hR)) (sim_S ?_)
    have hz : (ms m 2 0).1 2 = 0 := rfl
    rw [hz, h3]
    refine sim_posR (by decide) ?_
    obtain ⟨a, b, e1, e2, e3, e4⟩ := key 0 (by omega) _ _ hr' (by rw [hz]; decide)
    have e5 : m5_type_l42 v NN (0 - 1) (ms m 2 0) = some (ms m 2 0) := by
      obtain ⟨q, hq⟩ : ∃ q, NN = q + 1 := ⟨NN - 1, by have := NN_ge; omega⟩
      rw [hq]; rfl
    refine sim_R e5 (sim_some ⟨⟨rfl, hr'⟩, ?_⟩)
    show (0 : Int) ≤ _
    omega
  · refine sim_negL h3 (sim_negR h3 ?_)
    refine sim_L (gfI_v (rT3 h.1) s1) ?_
    rw [w32_id (by omega) (by omega)]
    refine sim_ite Iff.rfl (fun h4 => ?_) (fun _ => sim_some ⟨⟨rfl, h⟩, by show m.1 2 ≤ _; omega⟩)
    obtain ⟨j, rfl⟩ : ∃ j : Nat, n = j := ⟨n.toNat, by omega⟩
    refine sim_bind (key j (by omega) u m h (by omega)) (fun a b q => ?_)
    have hs := q.1.2.1
    refine sim_L (gfI_v (rT3 q.1.1) hs.1) (sim_some ⟨⟨rfl, q.1⟩, ?_⟩)
    show b.1 2 ≤ _
    omega

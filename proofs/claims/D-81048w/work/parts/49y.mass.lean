/-! mass, quantile, beyond -/
theorem Rt_I3 {G : CG} {L : Ly} {u : Sg} (hR : Rt G u L) (g : Nat) (v : Int) : Rt G (zsI u (L.1 3) g v) L := by
  have hf : frz L L u (zsI u (L.1 3) g v) := frz_sc2 (sc2_I sc2_rf (Or.inl (by rw [rC3 hR]; decide)))
  exact ⟨hR.1, hR.2.1, hR.2.2.1, hR.2.2.2.1, hR.2.2.2.2.1, St_k hR.2.2.2.1 hf hR.2.2.2.2.2.1, LF_k hf hR.2.2.2.2.2.2⟩
theorem o_find {G : CG} {L : Ly} {u : Sg} {m : Mu} (h : RC G L u m) : ∃ u' m', f0_findMasses G (some (L.1 3)) u = some u' ∧ m5_findMasses m = some m' ∧ RC G L u' m' ∧ m'.1 115 = 1 := by
  have h0 := h
  obtain ⟨hR, hS, hA, -⟩ := h
  obtain ⟨s1, s2, s3, s4, s5, s6, s7, s8, s9, s10, s11, s12, s13, s14, s15, s16, s17, s18⟩ := id hS
  obtain ⟨a1, a2, a3, a4, a5, a6, a7, a8⟩ := id hA
  unfold f0_findMasses m5_findMasses
  rw [gfI_v (rT3 hR) s17, Option.bind_some, w32_id (x := m.1 115) (by omega) (by omega)]
  by_cases hz : m.1 115 = 0
  · rw [if_pos hz, if_pos hz]
    have hsm : sm (fun i => m.2 109 i) 401 = m.1 111 := by rw [sm_sum]; exact a5
    have q0 : MQc L (zsI u (L.1 3) 31 1) (zsI u (L.1 3) 31 1) (zA u (L.1 128)) (zA u (L.1 129)) (zA u (L.1 130)) := ⟨⟨rfl, rfl, rfl, rfl, rfl, rfl⟩, fun _ _ _ _ => rfl, fun _ _ => ⟨rfl, rfl, rfl⟩⟩
    have hR2 : Rt G (zsI u (L.1 3) 31 1) L := Rt_I3 hR 31 1
    have hW2 : zI (zsI u (L.1 3) 31 1) (L.1 3) 26 = m.1 111 := by rw [zsI_I, if_neg (fun z => absurd z.2 (by decide))]; exact s14
    obtain ⟨u2, e2, q2⟩ := c_init (s := fun i => m.2 109 i) hR2 q0 (v1 := m.1 111 ^ 4)
    obtain ⟨u3, g3, k3, e3, q3⟩ := c_find (s := fun i => m.2 109 i) (c := fun i => m.2 110 i) hR2 hW2 ⟨s15, s16⟩ (fun a ha => (a4 a ha).2.1) hsm (fun a ha => ⟨(a4 a ha).1, w32_id (by have := (a4 a ha).2.1; omega) (by have := (a4 a ha).2.2; omega)⟩) (fun n hn => ⟨(a6 n hn).1, w32_id (by have := (a6 n hn).2.1; omega) (by have := (a6 n hn).2.2; omega)⟩) q2
    have z0 : MZ (ms m 115 1) (ms m 115 1) (m.2 112) (m.2 113) (m.2 114) := ⟨mfr_rf, fun _ _ => ⟨rfl, rfl, rfl⟩⟩
    obtain ⟨m2, f2, r2⟩ := m_init (s := fun i => m.2 109 i) z0
    obtain ⟨m3, g4, k4, f3, r3⟩ := m_find (s := fun i => m.2 109 i) (c := fun i => m.2 110 i) (W := m.1 111) (m := ms m 115 1) (by rw [ms_1, if_neg (by decide)]) ⟨s15, s16⟩ (fun a ha => ⟨rfl, (a4 a ha).2.1, w32_id (by have := (a4 a ha).2.1; omega) (by have := (a4 a ha).2.2; omega)⟩) (fun n hn => ⟨rfl, w32_id (by have := (a6 n hn).2.1; omega) (by have := (a6 n hn).2.2; omega)⟩) r2
    have w115 : m3.1 115 = 1 := by rw [r3.1.1 115 (by simp), ms_1, if_pos rfl]
    have hm1 : ∀ k, k ≠ 115 → m3.1 k = m.1 k := fun k hk => by rw [r3.1.1 k (by simp), ms_1, if_neg hk]
    have hm2 : ∀ k, k ≠ 112 → k ≠ 113 → k ≠ 114 → m3.2 k = m.2 k := fun k h1 h2 h3 => by rw [r3.1.2 k (by simp; omega)]; rfl
    refine ⟨u3, m3, ?_, ?_, ?_, w115⟩
    · rw [pfI_e (rT3 hR) (rG3 hR), Option.bind_some, c_pow (rT3 hR2) hW2 (w32_id (by omega) (by omega)), Option.bind_some, e2, Option.bind_some, e3, Option.bind_some]
    · rw [Option.bind_some, f2, Option.bind_some, f3, Option.bind_some]
    · have kI : ∀ a g, ¬ (a = L.1 3 ∧ g = 31) → zI u3 a g = zI u a g := fun a g hh => by rw [q3.1.2.2.1, zsI_I, if_neg hh]
      refine RC_pl h0 ⟨q3.1.1, q3.1.2.1, q3.1.2.2.2.2.1, q3.1.2.2.2.2.2, fun a g _ _ => by rw [q3.1.2.2.2.1]; rfl, fun a ha => ⟨?_, fun g _ => ?_⟩⟩ (mfr_tr (mfr_ms mfr_rf (by decide)) (mfr_up r3.1 (by simp) (by decide))) ?_ ?_
      · exact q3.2.1 a (fun z => ha (by rw [z]; decide)) (fun z => ha (by rw [z]; decide)) (fun z => ha (by rw [z]; decide))
      · exact kI a g (fun z => ha (by rw [z.1, rC3 hR]; decide))
      · unfold RS
        have i31 : zI u3 (L.1 3) 31 = 1 := by rw [q3.1.2.2.1, zsI_I, if_pos ⟨rfl, rfl⟩]
        rw [kI _ 2 (fun z => absurd z.2 (by decide)), kI _ 3 (fun z => absurd z.2 (by decide)), kI _ 12 (fun z => absurd z.2 (by decide)), kI _ 22 (fun z => absurd z.2 (by decide)), kI _ 23 (fun z => absurd z.2 (by decide)), kI _ 26 (fun z => absurd z.2 (by decide)), i31, hm1 2 (by decide), hm1 10 (by decide), hm1 97 (by decide), hm1 102 (by decide), hm1 101 (by decide), hm1 111 (by decide), w115]
        exact ⟨s1, s2, s3, s4, s5, s6, s7, s8, s9, s10, s11, s12, s13, s14, s15, s16, rfl, Or.inr rfl⟩
      · have kA : ∀ r, L.2 (L.1 r) = r → r ≠ 128 → r ≠ 129 → r ≠ 130 → zA u3 (L.1 r) = zA u (L.1 r) := fun r e n1 n2 n3 => q3.2.1 _ (by rw [e]; exact n1) (by rw [e]; exact n2) (by rw [e]; exact n3)
        unfold RA
        rw [kA 101 (rC101 hR) (by decide) (by decide) (by decide), kA 109 (rC109 hR) (by decide) (by decide) (by decide), kA 110 (rC110 hR) (by decide) (by decide) (by decide), kA 111 (rC111 hR) (by decide) (by decide) (by decide), kA 118 (rC118 hR) (by decide) (by decide) (by decide), kA 119 (rC119 hR) (by decide) (by decide) (by decide), kA 120 (rC120 hR) (by decide) (by decide) (by decide), kA 121 (rC121 hR) (by decide) (by decide) (by decide), kA 125 (rC125 hR) (by decide) (by decide) (by decide), kA 127 (rC127 hR) (by decide) (by decide) (by decide), kA 100 (rC100 hR) (by decide) (by decide) (by decide)]
        rw [hm1 2 (by decide), hm1 97 (by decide), hm1 102 (by decide), hm1 111 (by decide), hm2 0 (by decide) (by decide) (by decide), hm2 1 (by decide) (by decide) (by decide), hm2 98 (by decide) (by decide) (by decide), hm2 99 (by decide) (by decide) (by decide), hm2 100 (by decide) (by decide) (by decide), hm2 103 (by decide) (by decide) (by decide), hm2 104 (by decide) (by decide) (by decide), hm2 105 (by decide) (by decide) (by decide), hm2 106 (by decide) (by decide) (by decide), hm2 109 (by decide) (by decide) (by decide), hm2 110 (by decide) (by decide) (by decide)]
        refine ⟨a1, a2, a3, a4, a5, a6, fun _ i hi => ?_, a8⟩
        have bd := mB_bd (s := fun i => m.2 109 i) (c := fun i => m.2 110 i) (W := m.1 111) (fun a ha => (a4 a ha).2.1) hsm ⟨s15, s16⟩ (fun n hn => (a6 n hn).2) i 5 (by omega)
        rw [(q3.2.2 i hi).1, (r3.2 i hi).1]
        exact ⟨rfl, bd.1, by omega⟩
  · have : m.1 115 = 1 := by omega
    rw [if_neg hz, if_neg hz]
    exact ⟨u, m, rfl, rfl, h0, this⟩
/-- both have the same masses -/
theorem o_massL {G : CG} {L : Ly} {u : Sg} {m : Mu} (h : RC G L u m) (h1 : m.1 115 = 1) (v : Int) : ∃ r, f0_mass_l27 G (some (L.1 3)) v u NN 0 0 = some r ∧ m5_mass_l27 v m NN 0 0 = some r ∧ (v = -1 → r = sm (m.2 112) 1601) := by
  have hR := h.1
  have a7 := h.2.2.1.2.2.2.2.2.2.1 h1
  have l := rL128 hR
  by_cases hv : w32 v = -1
  · have key := sim_loop (fun q (i : Nat) => f0_mass_l27 G (some (L.1 3)) v u q (sm (m.2 112) i) (i : Int)) (fun q (i : Nat) => m5_mass_l27 v m q (sm (m.2 112) i) (i : Int)) (fun i _ => 1601 - i) (fun i j => i = j ∧ i ≤ 1601) (fun a b => a = b ∧ a = sm (m.2 112) 1601) (by
      rintro n k i j ⟨rfl, hi⟩ ih
      show sim (f0_mass_l27 G (some (L.1 3)) v u (n + 1) (sm (m.2 112) i) (i : Int)) (m5_mass_l27 v m (k + 1) (sm (m.2 112) i) (i : Int)) _
      unfold f0_mass_l27 m5_mass_l27
      rw [w32_n (by omega), hv]
      refine sim_ite Iff.rfl (fun hz => sim_some ⟨rfl, by rw [show i = 1601 by omega]⟩) (fun hz => sim_posL rfl (sim_posR rfl ?_))
      refine sim_L (gfR_v (rT3 hR) (rR3_28 hR)) (sim_L (alI_e i (rT128 hR) rfl (by omega) (by omega)) (sim_mald i rfl (by omega) (by omega) ?_))
      rw [(a7 i (by omega)).1]
      exact ih (i + 1) (i + 1) ⟨rfl, by omega⟩ (by omega)) NN NN 0 0 ⟨rfl, by omega⟩ (NN_gt (by omega)) (NN_gt (by omega))
    obtain ⟨a, b, e1, e2, hab, ha⟩ := key
    exact ⟨a, e1, by rw [hab]; exact e2, fun _ => ha⟩
  · obtain ⟨N, hN⟩ : ∃ N, NN = N + 1 := ⟨NN - 1, by have := NN_ge; omega⟩
    refine ⟨0, ?_, ?_, fun z => absurd (by rw [z]; decide) hv⟩
    · rw [hN]; unfold f0_mass_l27; rw [if_neg (by decide), if_neg hv]
    · rw [hN]; unfold m5_mass_l27; rw [if_neg (by decide), if_neg hv]
theorem o_mass2 {G : CG} {L : Ly} {u : Sg} {m : Mu} (h : RC G L u m) (v : Int) (hv : w32 v = v) : sim (f0_mass G (some (L.1 3)) v u) (m5_mass v m) (fun a b => aft G L a b ∧ b.2.1 115 = 1 ∧ (v = -1 → b.1 = sm (b.2.2 112) 1601)) := by
  obtain ⟨u', m', e1, e2, h', k⟩ := o_find h
  have hR := h'.1
  unfold f0_mass m5_mass
  refine sim_L (ztg_e (rT3 h.1)) (sim_L e1 (sim_R e2 ?_))
  have fin : sim (f0_mass_b22 G (some (L.1 3)) v u') (m5_mass_b22 v m') (fun a b => aft G L a b ∧ b.2.1 115 = 1 ∧ (v = -1 → b.1 = sm (b.2.2 112) 1601)) := by
    unfold f0_mass_b22 m5_mass_b22
    obtain ⟨r, q1, q2, q3⟩ := o_massL h' k v
    exact sim_L q1 (sim_R q2 (sim_some ⟨⟨rfl, h'⟩, k, q3⟩))
  rw [hv]
  refine sim_ite Iff.rfl (fun _ => fin) (fun h1 => sim_ite Iff.rfl (fun _ => fin) (fun h2 => ?_))
  have l := rL128 hR
  obtain ⟨i, rfl⟩ : ∃ i : Nat, v = i := ⟨v.toNat, by omega⟩
  refine sim_L (gfR_v (rT3 hR) (rR3_28 hR)) (sim_L (alI_e i (rT128 hR) rfl (by omega) (by omega)) (sim_mald i rfl (by omega) (by omega) (sim_some ⟨⟨(h'.2.2.1.2.2.2.2.2.2.1 k i (by omega)).1, h'⟩, k, fun z => by omega⟩)))
theorem o_mass {G : CG} {L : Ly} {u : Sg} {m : Mu} (h : RC G L u m) (v : Int) (hv : w32 v = v) : sim (f0_mass G (some (L.1 3)) v u) (m5_mass v m) (aft G L) := sim_mono (o_mass2 h v hv) (fun _ _ z => z.1)
theorem sm_bd {f : Nat → Int} {C : Int} : ∀ n, (∀ i, i < n → 0 ≤ f i ∧ f i ≤ C) → 0 ≤ sm f n ∧ sm f n ≤ C * (n : Int) := by
  intro n
  induction n with
  | zero => intro _; simp [sm]
  | succ n ih =>
    intro h
    have := ih (fun i hi => h i (by omega))
    have := h n (by omega)
    simp only [sm]
    rw [Int.natCast_add, Int.mul_add]
    omega
theorem sm_mono {f : Nat → Int} {i : Nat} : ∀ n, i ≤ n → (∀ j, j < n → 0 ≤ f j) → sm f i ≤ sm f n := by
  intro n
  induction n with
  | zero => intro h _; rw [show i = 0 by omega]; exact Int.le_refl _
  | succ n ih =>
    intro h hz
    by_cases q : i = n + 1
    · rw [q]; exact Int.le_refl _
    · have := ih (by omega) (fun j hj => hz j (by omega))
      have := hz n (by omega)
      simp only [sm]
      omega
theorem o_quantile {G : CG} {L : Ly} {u : Sg} {m : Mu} (h : RC G L u m) (up dn : Int) (hu : w32 up = up) (hd : w32 dn = dn) : sim (f0_quantile G (some (L.1 3)) up dn u) (m5_quantile up dn m) (aft G L) := by
  unfold f0_quantile m5_quantile
  rw [hu, hd]
  refine sim_ite Iff.rfl (fun _ => sim_some ⟨rfl, h⟩) (fun k1 => sim_ite Iff.rfl (fun _ => sim_some ⟨rfl, h⟩) (fun k2 => sim_ite Iff.rfl (fun _ => sim_some ⟨rfl, h⟩) (fun k3 => sim_ite Iff.rfl (fun k4 => ?_) (fun _ => sim_some ⟨rfl, h⟩))))
  refine sim_L (ztg_e (rT3 h.1)) (sim_bind (o_mass2 h (-1) (by decide)) ?_)
  rintro ⟨x, u'⟩ ⟨y, m'⟩ ⟨⟨exy, h'⟩, k, hall⟩
  dsimp only at exy h' k hall ⊢
  subst exy
  have hall := hall rfl
  have hR := h'.1
  have l := rL128 hR
  have a7 := h'.2.2.1.2.2.2.2.2.2.1 k
  have bd : ∀ n, n ≤ 1601 → 0 ≤ sm (m'.2 112) n ∧ sm (m'.2 112) n ≤ 1600000000000 * (n : Int) := fun n hn => sm_bd n (fun i hi => (a7 i (by omega)).2)
  refine sim_ite Iff.rfl (fun _ => sim_some ⟨rfl, h'⟩) (fun k5 => ?_)
  refine sim_L (gfR_v (rT3 hR) (rR3_28 hR)) (sim_L (alI_e 0 (rT128 hR) rfl (by omega) (by omega)) (sim_mald 0 rfl (by omega) (by omega) ?_))
  rw [(a7 0 (by omega)).1]
  have key := sim_loop (fun q (i : Nat) => f0_quantile_l50 G (some (L.1 3)) up dn x u' q (sm (m'.2 112) (i + 1)) (i : Int)) (fun q (i : Nat) => m5_quantile_l50 up dn x m' q (sm (m'.2 112) (i + 1)) (i : Int)) (fun i _ => 1601 - i) (fun i j => i = j ∧ i ≤ 1600) (fun a b => a = b) (by
    rintro n k i j ⟨rfl, hi⟩ ih
    show sim (f0_quantile_l50 G (some (L.1 3)) up dn x u' (n + 1) (sm (m'.2 112) (i + 1)) (i : Int)) (m5_quantile_l50 up dn x m' (k + 1) (sm (m'.2 112) (i + 1)) (i : Int)) _
    unfold f0_quantile_l50 m5_quantile_l50
    rw [hu, hd]
    refine sim_ite Iff.rfl (fun hz => sim_some rfl) (fun hz => ?_)
    have hlt : i < 1600 := by
      refine Classical.byContradiction fun q => hz ?_
      have : i = 1600 := by omega
      rw [this, ← hall]
      have b := bd 1601 (by omega)
      rw [← hall] at b
      have p1 : up * x ≤ dn * x := Int.mul_le_mul_of_nonneg_right k4 b.1
      have p2 : dn * x ≤ 1000 * x := Int.mul_le_mul_of_nonneg_right (by omega) b.1
      have p3 : 0 ≤ up * x := Int.mul_nonneg (by omega) b.1
      rw [w64_id (by omega) (by omega), w64_id (by omega) (by omega)]
      exact p1
    refine sim_L (gfR_v (rT3 hR) (rR3_28 hR)) (sim_L (alI_e (i + 1) (rT128 hR) (by omega) (by omega) (by omega)) (sim_mald (i + 1) (by omega) (by omega) (by omega) ?_))
    rw [(a7 (i + 1) (by omega)).1]
    exact ih (i + 1) (i + 1) ⟨rfl, by omega⟩ (by omega)) NN NN 0 0 ⟨rfl, by omega⟩ (NN_gt (by omega)) (NN_gt (by omega))
  obtain ⟨a, b, e1, e2, rfl⟩ := key
  have z0 : sm (m'.2 112) (0 + 1) = m'.2 112 0 := by simp [sm]
  have e1 : f0_quantile_l50 G (some (L.1 3)) up dn x u' NN (sm (m'.2 112) (0 + 1)) 0 = some a := e1
  have e2 : m5_quantile_l50 up dn x m' NN (sm (m'.2 112) (0 + 1)) 0 = some a := e2
  rw [z0] at e1 e2
  exact sim_L e1 (sim_R e2 (sim_some ⟨rfl, h'⟩))
theorem o_beyond {G : CG} {L : Ly} {u : Sg} {m : Mu} (h : RC G L u m) (x : Int) (hx : w32 x = x) : sim (f0_beyond G (some (L.1 3)) x u) (m5_beyond x m) (aft G L) := by
  unfold f0_beyond m5_beyond
  rw [hx]
  refine sim_ite Iff.rfl (fun _ => sim_some ⟨rfl, h⟩) (fun k1 => sim_ite Iff.rfl (fun k2 => ?_) (fun _ => sim_some ⟨rfl, h⟩))
  obtain ⟨u', m', e1, e2, h', k⟩ := o_find h
  have hR := h'.1
  have l := rL128 hR
  have a7 := h'.2.2.1.2.2.2.2.2.2.1 k
  refine sim_L (ztg_e (rT3 h.1)) (sim_L e1 (sim_R e2 ?_))
  have key := sim_loop (fun q (s : Int × Int) => f0_beyond_l26 G (some (L.1 3)) x u' q s.1 s.2) (fun q (s : Int × Int) => m5_beyond_l26 x m' q s.1 s.2) (fun s _ => (1601 - s.2).toNat) (fun s t => s = t ∧ 0 ≤ s.2 ∧ s.2 ≤ 1601) (fun a b => a = b) (by
    rintro n k ⟨v, z⟩ t ⟨rfl, hz0, hz1⟩ ih
    dsimp only at hz0 hz1 ⊢
    show sim (f0_beyond_l26 G (some (L.1 3)) x u' (n + 1) v z) (m5_beyond_l26 x m' (k + 1) v z) _
    unfold f0_beyond_l26 m5_beyond_l26
    rw [w32_id (x := z) (by omega) (by omega)]
    refine sim_ite Iff.rfl (fun _ => sim_some rfl) (fun hz => ?_)
    obtain ⟨i, rfl⟩ : ∃ i : Nat, z = i := ⟨z.toNat, by omega⟩
    refine sim_L (gfR_v (rT3 hR) (rR3_28 hR)) (sim_L (alI_e i (rT128 hR) rfl (by omega) (by omega)) (sim_mald i rfl (by omega) (by omega) ?_))
    rw [(a7 i (by omega)).1]
    exact ih (_, (i : Int) + 1) (_, (i : Int) + 1) ⟨rfl, by dsimp only; omega, by dsimp only; omega⟩ (by dsimp only; omega)) NN NN (0, x + 1) (0, x + 1) ⟨rfl, by dsimp only; omega, by dsimp only; omega⟩ (NN_gt (by dsimp only; omega)) (NN_gt (by dsimp only; omega))
  exact sim_bind key (fun a b hab => sim_some ⟨hab, h'⟩)

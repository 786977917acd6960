/-! CALLS that read what lies plain: place, told, row, shown, apart -/
theorem o_place {G : CG} {L : Ly} {u : Sg} {m : Mu} (h : RC G L u m) : sim (f0_place G (some (L.1 3)) u) (m5_place m) same1 := by
  unfold f0_place m5_place
  exact sim_L (gfI_e (rT3 h.1)) (sim_some h.2.1.2.2.2.1)
theorem ml_size {G : CG} {L : Ly} {u : Sg} {r rb n : Nat} {el : Nat → Nat} (h : ML G u L r rb n el) : fJ2_size G (some (L.1 r)) u = some (n : Int) := J_size h.1
theorem o_told {G : CG} {L : Ly} {u : Sg} {m : Mu} (h : RC G L u m) (v : Int) : sim (f0_told G (some (L.1 3)) v u) (m5_told v m) same1 := by
  obtain ⟨hR, hS, hA, hJ, hW, hE, hP, hK⟩ := h
  unfold f0_told m5_told
  have q : ∀ {r rb : Nat} {el : Nat → Nat} {x : Int}, 0 ≤ x → ML G u L r rb x.toNat el → fJ2_size G (some (L.1 r)) u = some x := by
    intro r rb el x hx hm
    rw [ml_size hm]; congr 1; omega
  refine sim_ite Iff.rfl (fun _ => ?_) (fun _ => ?_)
  · exact sim_L (gfR_v (rT3 hR) (rR3_5 hR)) (sim_L (ztg_e hW.2.2.1.1.1) (sim_L (q hW.1 hW.2.2.1) (sim_some rfl)))
  refine sim_ite Iff.rfl (fun _ => ?_) (fun _ => ?_)
  · exact sim_L (gfR_v (rT3 hR) (rR3_6 hR)) (sim_L (ztg_e hE.2.2.1.1.1) (sim_L (q hE.1 hE.2.2.1) (sim_some rfl)))
  refine sim_ite Iff.rfl (fun _ => ?_) (fun _ => ?_)
  · exact sim_L (gfR_v (rT3 hR) (rR3_7 hR)) (sim_L (ztg_e hP.2.2.1.1.1) (sim_L (q hP.1 hP.2.2.1) (sim_some rfl)))
  refine sim_ite Iff.rfl (fun _ => ?_) (fun _ => ?_)
  · exact sim_L (gfR_v (rT3 hR) (rR3_8 hR)) (sim_L (ztg_e hK.2.2.1.1.1) (sim_L (q hK.1 hK.2.2.1) (sim_some rfl)))
  obtain ⟨s1, s2, s3, s4, s5, s6, s7, s8, s9, s10, s11, s12, s13, s14, -⟩ := hS
  refine sim_ite Iff.rfl (fun _ => ?_) (fun _ => ?_)
  · exact sim_L (gfI_e (rT3 hR)) (sim_some s5)
  refine sim_ite Iff.rfl (fun _ => ?_) (fun _ => ?_)
  · exact sim_L (gfI_e (rT3 hR)) (sim_some s8)
  refine sim_ite Iff.rfl (fun _ => ?_) (fun _ => ?_)
  · exact sim_L (gfI_e (rT3 hR)) (sim_some s14)
  refine sim_ite Iff.rfl (fun _ => ?_) (fun _ => ?_)
  · exact sim_L (gfI_e (rT3 hR)) (sim_some s1)
  exact sim_some rfl
theorem o_row {G : CG} {L : Ly} {u : Sg} {m : Mu} (h : RC G L u m) (i v : Int) (hi : w32 i = i) : sim (f0_row G (some (L.1 3)) i v u) (m5_row i v m) same1 := by
  obtain ⟨hR, hS, hA, -⟩ := h
  unfold f0_row m5_row
  rw [hi]
  obtain ⟨s1, s2, s3, s4, s5, s6, s7, s8, s9, s10, -⟩ := hS
  refine sim_ite Iff.rfl (fun _ => sim_some rfl) (fun h0 => ?_)
  refine sim_L (gfI_v (rT3 hR) s8) (sim_ite Iff.rfl (fun h1 => ?_) (fun _ => sim_some rfl))
  rw [w32_id (by omega) (by omega)] at h1
  have hb := hA.2.2.1 i.toNat (by omega)
  have e : i = (i.toNat : Int) := by omega
  refine sim_ite Iff.rfl (fun _ => ?_) (fun _ => ?_)
  · exact sim_L (gfR_v (rT3 hR) (rR3_18 hR)) (sim_L (alI_e i.toNat (rT118 hR) e (by rw [rL118 hR]; omega) (by rw [rL118 hR]; omega)) (sim_mald i.toNat e (by omega) (by omega) (sim_some hb.1)))
  refine sim_ite Iff.rfl (fun _ => ?_) (fun _ => ?_)
  · exact sim_L (gfR_v (rT3 hR) (rR3_19 hR)) (sim_L (alI_e i.toNat (rT119 hR) e (by rw [rL119 hR]; omega) (by rw [rL119 hR]; omega)) (sim_mald i.toNat e (by omega) (by omega) (sim_some hb.2.1)))
  refine sim_ite Iff.rfl (fun _ => ?_) (fun _ => ?_)
  · exact sim_L (gfR_v (rT3 hR) (rR3_20 hR)) (sim_L (alI_e i.toNat (rT120 hR) e (by rw [rL120 hR]; omega) (by rw [rL120 hR]; omega)) (sim_mald i.toNat e (by omega) (by omega) (sim_some hb.2.2.1)))
  refine sim_ite Iff.rfl (fun _ => ?_) (fun _ => ?_)
  · exact sim_L (gfR_v (rT3 hR) (rR3_21 hR)) (sim_L (alI_e i.toNat (rT121 hR) e (by rw [rL121 hR]; omega) (by rw [rL121 hR]; omega)) (sim_mald i.toNat e (by omega) (by omega) (sim_some hb.2.2.2.1)))
  exact sim_some rfl
theorem o_shown {G : CG} {L : Ly} {u : Sg} {m : Mu} (h : RC G L u m) (f : Int) (hf : w32 f = f) : sim (f0_shown G (some (L.1 3)) f u) (m5_shown f m) same1 := by
  obtain ⟨hR, hS, hA, hJ, -⟩ := h
  obtain ⟨-, -, -, j1, j2, j3, j4, j5⟩ := hJ
  unfold f0_shown m5_shown
  rw [hf, w32_id (x := m.1 70) (by omega) (by omega)]
  refine sim_L (gfR_v (rT3 hR) (rR3_15 hR)) (sim_L (gfI_e (rT115 hR)) ?_)
  rw [w32_id (x := zI u (L.1 115) 127) (by omega) (by omega)]
  refine sim_iteN ?_ (fun _ => sim_some rfl) (fun hc => ?_)
  · rw [← j2]; omega
  have hj := j5 (j2.mp (by omega))
  refine sim_ite Iff.rfl (fun _ => sim_some rfl) (fun h0 => ?_)
  refine sim_L (gfR_v (rT3 hR) (rR3_15 hR)) (sim_L (gfI_v (rT115 hR) hj.1) ?_)
  rw [w32_id (x := m.1 70) (by omega) (by omega)]
  refine sim_iteN (by omega) (fun h1 => ?_) (fun _ => sim_some rfl)
  have e : f = (f.toNat : Int) := by omega
  exact sim_L (gfR_v (rT3 hR) (rR3_15 hR)) (sim_L (gfR_v (rT115 hR) (rR115_126 hR)) (sim_L (alI_e f.toNat (rT149 hR) e (by rw [rL149 hR]; omega) (by rw [rL149 hR]; omega)) (sim_mald f.toNat e (by omega) (by omega) (sim_some (hj.2 _ (by omega))))))
theorem o_apart {G : CG} {L : Ly} {u : Sg} {m : Mu} (h : RC G L u m) (s f : Int) (hs : w32 s = s) (hf : w32 f = f) : sim (f0_apart G (some (L.1 3)) s f u) (m5_apart s f m) same1 := by
  obtain ⟨hR, hS, hA, hJ, -⟩ := h
  obtain ⟨j1, j2, j3, -⟩ := hJ
  unfold f0_apart m5_apart
  rw [hs, hf, w32_id (x := m.1 68) (by omega) (by omega)]
  refine sim_ite Iff.rfl (fun _ => sim_some rfl) (fun h0 => ?_)
  refine sim_ite Iff.rfl (fun h1 => ?_) (fun _ => sim_some rfl)
  have e : s = (s.toNat : Int) := by omega
  obtain ⟨k1, k2, k3⟩ := j1 s.toNat (by omega)
  have k4 := j3 s.toNat (by omega)
  refine sim_L (gfR_v (rT3 hR) (rR3_15 hR)) (sim_L (gfR_v (rT115 hR) (rR115_124 hR)) (sim_L (alI_e s.toNat (rT148 hR) e (by rw [rL148 hR]; omega) (by rw [rL148 hR]; omega)) ?_))
  rw [w32_id (x := zA u (L.1 148) s.toNat) (by omega) (by omega)]
  by_cases hz : zA u (L.1 148) s.toNat = 0
  · refine sim_posL hz ?_
    refine sim_iteR (fun _ => sim_some rfl) (fun hc => ?_)
    refine sim_mald s.toNat e (by omega) (by omega) ?_
    rw [w32_id (x := m.2 67 s.toNat) (by omega) (by omega)]
    refine sim_negR (fun hq => ?_) (sim_some rfl)
    have := k2.mpr ⟨by omega, hq⟩
    omega
  · refine sim_negL hz ?_
    have h9 : zA u (L.1 148) s.toNat = 1 := by omega
    obtain ⟨k5, k6⟩ := k2.mp h9
    obtain ⟨k7, k8, k9⟩ := k3 h9
    refine sim_negR (by omega) (sim_mald s.toNat e (by omega) (by omega) ?_)
    rw [w32_id (x := m.2 67 s.toNat) (by omega) (by omega)]
    refine sim_posR k6 (sim_ite Iff.rfl (fun _ => sim_some rfl) (fun h2 => ?_))
    refine sim_L (gfR_v (rT3 hR) (rR3_15 hR)) (sim_L (gfI_v (rT115 hR) k7) (sim_mald s.toNat e (by omega) (by omega) ?_))
    rw [w32_id (x := m.2 67 s.toNat) (by omega) (by omega)]
    refine sim_iteN (by omega) (fun h3 => ?_) (fun _ => sim_some rfl)
    have e2 : 8 * s + f = ((8 * s.toNat + f.toNat : Nat) : Int) := by omega
    exact sim_L (gfR_v (rT3 hR) (rR3_15 hR)) (sim_L (gfR_v (rT115 hR) (rR115_123 hR)) (sim_L (alI_e (8 * s.toNat + f.toNat) (rT147 hR) e2 (by rw [rL147 hR]; omega) (by rw [rL147 hR]; omega)) (sim_mald _ e2 (by omega) (by omega) (sim_some (k9 _ (by omega))))))

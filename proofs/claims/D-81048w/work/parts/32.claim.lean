/-! THE CALL claim -/
/-- a Known is made -/
def knoU (s : Sg) : Sg := zsR (znew (zsR (znew (znew s 20 0) 101 6) (zN s) 760 (some (zN s + 1))) 101 6) (zN s) 761 (some (zN s + 2))
theorem knoU_f {G : CG} {s : Sg} (hG : G0 G ≤ zN s) : okU (f19_init G (some (zN s)) 6 (znew s 20 0)) 2 12 (fun r => r = knoU s) := by
  unfold f19_init
  refine okU_eq (a := zN s) rfl ?_
  refine okU_newA 6 rfl (by omega) (by omega) (by omega) ?_
  refine okU_eq (pfR_e (by rw [znew_T, znew_T]; simp [znew_N]) hG) ?_
  refine okU_newA 6 rfl (by omega) (by omega) (by omega) ?_
  refine okU_eq (pfR_e (by rw [znew_T, zsR_T, zsR_N, znew_T, znew_T]; simp [znew_N, Nat.add_assoc]) hG) ?_
  exact okU_some rfl (by omega) (by omega)
theorem knoU_ok {s : Sg} : zN (knoU s) = zN s + 3 ∧ gro s (knoU s) ∧ (∀ a, a < zN s → sam s (knoU s) a) ∧ zT (knoU s) (zN s) = 20 ∧ zI (knoU s) (zN s) 762 = 0 ∧ ∀ j, j < 2 → zR (knoU s) (zN s) (760 + j) = some (zN s + 1 + j) ∧ zT (knoU s) (zN s + 1 + j) = 101 ∧ zL (knoU s) (zN s + 1 + j) = 6 := by
  have hs : ∀ a, a < zN s → sam s (knoU s) a := by
    intro a ha
    unfold knoU
    refine sam_zsR (sam_znew (sam_zsR (sam_znew (sam_znew sam_rf ?_) ?_) ?_) ?_) ?_ <;> (try simp only [zsR_N, znew_N]) <;> omega
  have hN : zN (knoU s) = zN s + 3 := rfl
  refine ⟨hN, ⟨by rw [hN]; omega, fun x hx => ⟨(hs x hx).1, (hs x hx).2.1⟩⟩, hs, ?_, ?_, fun j hj => ?_⟩
  · unfold knoU; simp [zsR_T, znew_T, zsR_N, znew_N, Nat.add_assoc]
  · unfold knoU; simp [zsR_I, znew_I, zsR_N, znew_N, Nat.add_assoc]
  · rcases (show j = 0 ∨ j = 1 by omega) with rfl | rfl <;>
    · unfold knoU; simp [zsR_T, zsR_L, zsR_R, znew_R, znew_T, znew_L, zsR_N, znew_N, Nat.add_assoc]
/-- it is a Known of nothing yet -/
theorem KA_new {G : CG} {L : Ly} {u : Sg} {a r : Nat} {vs ds : Nat → Int} (hG : G0 G ≤ a) (h1 : zT u a = 20) (h2 : zI u a 762 = 0) (h3 : ∀ j, j < 2 → zR u a (760 + j) = some (a + 1 + j) ∧ zT u (a + 1 + j) = 101 ∧ zL u (a + 1 + j) = 6) (hL : ∀ j, j < 3 → L.1 (r + j) = a + j ∧ L.2 (a + j) = r + j) : KA G L u r 0 vs ds := by
  have e0 : L.1 r = a := (hL 0 (by omega)).1
  have ej : ∀ j, j < 2 → L.1 (r + 1 + j) = a + 1 + j := fun j hj => by have := (hL (1 + j) (by omega)).1; rw [← Nat.add_assoc, ← Nat.add_assoc] at this; exact this
  have cj : ∀ j, j < 2 → L.2 (a + 1 + j) = r + 1 + j := fun j hj => by have := (hL (1 + j) (by omega)).2; rw [← Nat.add_assoc, ← Nat.add_assoc] at this; exact this
  refine ⟨by rw [e0]; exact h1, by rw [e0]; exact hG, by rw [e0]; exact (hL 0 (by omega)).2, by rw [e0]; exact h2, Int.le_refl _, by decide, fun j hj => ?_, fun k hk => by omega⟩
  rw [e0, ej j hj, cj j hj]
  exact ⟨(h3 j hj).1, (h3 j hj).2.1, (h3 j hj).2.2, by omega, rfl⟩
/-- a claim's cells are made -/
def claU (u : Sg) (p d k : Int) (ev : Option Nat) : Sg := zsI (zsI (zsR (zsI (zsR (knoU (znew u 22 0)) (zN u) 844 (some (zN u + 1))) (zN u) 840 p) (zN u) 841 ev) (zN u) 842 d) (zN u) 843 k
theorem claU_f {G : CG} {u : Sg} {p d k : Int} {ev : Option Nat} (hG : G0 G ≤ zN u) : okU (f21_init G (some (zN u)) p ev d k (znew u 22 0)) 3 15 (fun r => r = claU u p d k ev) := by
  have hk := knoU_ok (s := znew u 22 0)
  have t : zT (knoU (znew u 22 0)) (zN u) = 22 := by rw [(hk.2.2.1 (zN u) (by rw [znew_N]; omega)).1, znew_T, if_pos rfl]
  unfold f21_init
  refine okU_eq (a := zN u) rfl ?_
  refine okU_new (by omega) (by omega) ?_
  refine okU_bdU (knoU_f (by rw [znew_N]; omega)) (by omega) (by omega) (fun q hq => ?_)
  subst hq
  refine okU_eq (pfR_e t hG) (okU_eq (pfI_e (by exact t) hG) (okU_eq (pfR_e (by exact t) hG) (okU_eq (pfI_e (by exact t) hG) (okU_eq (pfI_e (by exact t) hG) ?_))))
  exact okU_some rfl (by omega) (by omega)
theorem claU_ok {u : Sg} {p d k : Int} {ev : Option Nat} : zN (claU u p d k ev) = zN u + 4 ∧ gro u (claU u p d k ev) ∧ (∀ a, a < zN u → sam u (claU u p d k ev) a) ∧ zT (claU u p d k ev) (zN u) = 22 ∧ (zI (claU u p d k ev) (zN u) 840 = p ∧ zI (claU u p d k ev) (zN u) 842 = d ∧ zI (claU u p d k ev) (zN u) 843 = k ∧ zI (claU u p d k ev) (zN u) 845 = 0 ∧ zI (claU u p d k ev) (zN u) 846 = 0 ∧ zR (claU u p d k ev) (zN u) 841 = ev ∧ zR (claU u p d k ev) (zN u) 844 = some (zN u + 1)) ∧ zT (claU u p d k ev) (zN u + 1) = 20 ∧ zI (claU u p d k ev) (zN u + 1) 762 = 0 ∧ ∀ j, j < 2 → zR (claU u p d k ev) (zN u + 1) (760 + j) = some (zN u + 1 + 1 + j) ∧ zT (claU u p d k ev) (zN u + 1 + 1 + j) = 101 ∧ zL (claU u p d k ev) (zN u + 1 + 1 + j) = 6 := by
  obtain ⟨k1, k2, k3, k4, k5, k6⟩ := knoU_ok (s := znew u 22 0)
  rw [znew_N] at k1 k3 k4 k5 k6
  have t := k3 (zN u) (by omega)
  have z : ∀ a, a ≠ zN u → sam (knoU (znew u 22 0)) (claU u p d k ev) a := fun a ha => by
    unfold claU
    exact sam_zsI (sam_zsI (sam_zsR (sam_zsI (sam_zsR sam_rf ha) ha) ha) ha) ha
  have hs : ∀ a, a < zN u → sam u (claU u p d k ev) a := fun a ha => sam_tr (sam_tr (sam_znew sam_rf (by omega)) (k3 a (by omega))) (z a (by omega))
  have hN : zN (claU u p d k ev) = zN u + 4 := k1
  have s1 := z (zN u + 1) (by omega)
  refine ⟨hN, ⟨by rw [hN]; omega, fun x hx => ⟨(hs x hx).1, (hs x hx).2.1⟩⟩, hs, ?_, ?_, by rw [s1.1]; exact k4, by rw [s1.2.2.1]; exact k5, fun j hj => ?_⟩
  · show zT (knoU (znew u 22 0)) (zN u) = 22
    rw [t.1, znew_T, if_pos rfl]
  · have ti : zI (knoU (znew u 22 0)) (zN u) = fun _ => 0 := by rw [t.2.2.1, znew_I, if_pos rfl]
    unfold claU
    simp [zsI_I, zsR_I, zsI_R, zsR_R, ti]
  · have sj := z (zN u + 1 + 1 + j) (by omega)
    rw [s1.2.2.2.1, sj.1, sj.2.1]
    exact k6 j hj
theorem ma_i {m : Mu} {k a : Nat} {v : Int} {j i : Nat} (h : i ≠ a) : (ma m k a v).2 j i = m.2 j i := by
  rw [ma_2]
  split
  · next e => rw [e, va_up_e, if_neg h]
  · rfl
theorem o_claim {G : CG} {L : Ly} {u : Sg} {m : Mu} (h : RC G L u m) (p e d k : Int) (hp : w32 p = p) (he : w32 e = e) (hd : w32 d = d) (hk : w32 k = k) : sim (f0_claim G (some (L.1 3)) p e d k u) (m5_claim p e d k m) (aftU G L 5 200) := by
  have h0 := h
  have z0 : ∀ {v : Int}, aftU G L 5 200 ((v, u), 0, 0) (v, m) := fun {v} => ⟨rfl, Nat.zero_le _, Nat.zero_le _, L, rfl, h0⟩
  unfold f0_claim m5_claim
  refine sim_L (ztg_e (rT3 h.1)) (sim_L (c_isP h hp) (sim_R (m_isP h hp) (sim_test (fun _ => sim_some z0) (fun h1 => ?_))))
  refine sim_L (ztg_e (rT3 h.1)) (sim_L (c_isE h he) (sim_R (m_isE h he) (sim_test (fun _ => sim_some z0) (fun h2 => ?_))))
  refine sim_L (c_isDay hd) (sim_R (m_isDay hd) (sim_test (fun _ => sim_some z0) (fun h3 => ?_)))
  refine sim_L (c_isDay hk) (sim_R (m_isDay hk) (sim_test (fun _ => sim_some z0) (fun h4 => ?_)))
  obtain ⟨hR, hS, hA, hJ, hW, hE, hP, hK⟩ := h
  have p0 := hK.1
  have p12 := hK.2.1
  refine sim_L (gfR_v (rT3 hR) (rR3_8 hR)) (sim_L (ztg_e hK.2.2.1.1.1) (sim_L (sz_int hK.1 hK.2.2.1) (sim_ite Iff.rfl (fun _ => sim_some z0) (fun hc => ?_))))
  rw [w32_id (by omega) (by omega)] at hc
  obtain ⟨n, hn⟩ : ∃ n : Nat, m.1 87 = n := ⟨(m.1 87).toNat, by omega⟩
  obtain ⟨ee, rfl⟩ : ∃ ee : Nat, e = ee := ⟨e.toNat, by omega⟩
  have hML : ML G u L 108 154 n (fun i => L.1 (4008 + 8 * i)) := by
    have := hK.2.2.1
    rw [hn] at this
    exact this
  refine sim_L (gfR_v (rT3 hR) (rR3_8 hR)) ?_
  obtain ⟨v1, v2, v3, v4, ⟨c1, c2, c3, c4, c5, c6, c7⟩, v5, v6, v7⟩ := claU_ok (u := u) (p := p) (d := d) (k := k) (ev := some (L.1 (400 + ee)))
  have hG := hR.2.2.2.2.1
  generalize hu6 : claU u p d k (some (L.1 (400 + ee))) = u6 at *
  have hl6 : LA u6 (L.1 108) (L.1 154) n := LA_sam hML.1 (v3 _ hML.1.2.2.2.2.2.2.1) (v3 _ hML.1.2.2.2.2.2.2.2.1) v2.1 (fun x hx => (v2.2 x hx).1)
  have hw6 : LW G u6 (L.1 108) (L.1 154) := ⟨hML.2.1.1, by rw [(v2.2 _ hML.1.2.2.2.2.2.2.2.1).2]; exact hML.2.1.2.1, by rw [(v2.2 _ hML.1.2.2.2.2.2.2.2.1).2]; exact hML.2.1.2.2⟩
  obtain ⟨b', u7, hadd, hAD⟩ := J_add (v := some (zN u)) hl6 hw6 (by show G0 G ≤ zN u6; rw [v1]; omega) (by omega) shr32_1 (fun x hx => by cases hx; exact ⟨by rw [v4]; decide, by rw [v1]; omega⟩)
  have r3N : L.1 3 < zN u := hR.2.2.1 _ (by rw [rC3 hR]; decide)
  have s3 : sam u u7 (L.1 3) := sam_tr (v3 _ r3N) (hAD.2.2.2.2.2.2.2 _ (fun z => by have := hML.2.2.1; rw [← z, rC3 hR] at this; cases this) (fun z => by
    have := hAD.1.2.2.2.1
    rw [← z, (hAD.2.2.2.2.2.1.2 _ (by rw [v1]; omega)).1, (v2.2 _ r3N).1, rT3 hR] at this
    cases this))
  have hML6 := hE.2.2.1
  have sN : ∀ a, a < zN u → sam u (znew u 22 0) a := fun a ha => sam_znew sam_rf (by omega)
  have sn3 := sN _ r3N
  have hE6 : LA (znew u 22 0) (L.1 106) (L.1 152) (m.1 71).toNat := LA_sam hML6.1 (sN _ hML6.1.2.2.2.2.2.2.1) (sN _ hML6.1.2.2.2.2.2.2.2.1) (by rw [znew_N]; omega) (fun x hx => (sN x hx).1)
  obtain ⟨w, w1, w2, w12, w3, hEE, -⟩ := ev_at h0 (e := ee) (by omega) (by omega)
  have hge : fJ2_get G (some (L.1 106)) ((ee : Int) - 1) (znew u 22 0) = some (some (L.1 (400 + ee))) := by
    rw [J_get hE6 (ee - 1) (by omega) (by omega), (sN _ hML6.1.2.2.2.2.2.2.2.1).2.2.2.2.2, hML6.2.2.2.2 (ee - 1) (by omega)]
    show some (some (L.1 (401 + (ee - 1)))) = _
    rw [show 401 + (ee - 1) = 400 + ee by omega]
  have eN : L.1 (400 + ee) < zN u := hR.2.2.1 _ (by rw [hEE.2.2.1]; decide)
  have hcls : okU (bdU (zNew u 22 7) fun q11 => (gfR q11.2 1 6 (some (L.1 3))).bind fun x12 => (ztg q11.2 6 x12).bind fun b13 => (fJ2_get G (some b13) ((ee : Int) - 1) q11.2).bind fun x14 => (zcast q11.2 [19] x14).bind fun y15 => bdU (f21_init G (some q11.1) p x14 d k q11.2) fun q16 => (ztg q16 6 (some (L.1 108))).bind fun b17 => bdU (fJ2_add G (some b17) (some q11.1) q16) fun q18 => (gfR q18.2 1 8 (some (L.1 3))).bind fun x19 => (ztg q18.2 6 x19).bind fun b20 => (fJ2_size G (some b20) q18.2).bind fun x21 => some ((x21, q18.2), 0, 0)) 5 200 (fun r => r = ((n : Int) + 1, u7)) := by
    refine okU_new (by omega) (by omega) ?_
    refine okU_eq (gfR_v (by show zT (znew u 22 0) (L.1 3) = 1; rw [sn3.1]; exact rT3 hR) (by show zR (znew u 22 0) (L.1 3) 6 = _; rw [sn3.2.2.2.1]; exact rR3_6 hR)) (okU_eq (ztg_e hE6.1) (okU_eq hge (okU_eq (zcast_1 (by show zT (znew u 22 0) _ = 19; rw [(sN _ eN).1]; exact hEE.2.2.2.1)) ?_)))
    refine okU_bdU (claU_f hG) (by omega) (by omega) (fun q hq => ?_)
    rw [hu6] at hq
    subst hq
    refine okU_eq (ztg_e hl6.1) ?_
    refine okU_bdU hadd (by omega) (by omega) (fun q hq => ?_)
    subst hq
    refine okU_eq (gfR_v (by show zT u7 (L.1 3) = 1; rw [s3.1]; exact rT3 hR) (by show zR u7 (L.1 3) 8 = _; rw [s3.2.2.2.1]; exact rR3_8 hR)) (okU_eq (ztg_e hAD.1.1) (okU_eq (J_size hAD.1) ?_))
    exact okU_some (by simp) (by omega) (by omega)
  refine sim_okU hcls (b := ((n : Int) + 1, ma (ma (ma (ma (ma (ms m 87 (m.1 87 + 1)) 88 (n + 1) p) 89 (n + 1) ee) 90 (n + 1) d) 91 (n + 1) k) 92 (n + 1) 0)) ?_ ?_
  · have e1 : (ms m 87 (m.1 87 + 1)).1 87 = ((n + 1 : Nat) : Int) := by rw [ms_1, if_pos rfl]; omega
    refine ok_is (ok_st (ok_mast (n + 1) e1 (by omega) (by omega) (ok_mast (n + 1) e1 (by omega) (by omega) (ok_mast (n + 1) e1 (by omega) (by omega) (ok_mast (n + 1) e1 (by omega) (by omega) (ok_mast (n + 1) e1 (by omega) (by omega) (ok_some ?_)))))))
    show ((ms m 87 (m.1 87 + 1)).1 87, _) = _
    rw [e1]
    rfl
  rintro a c s rfl hc1 hs1
  refine ⟨rfl, hc1, hs1, mkL (fun r => if 4008 + 8 * n ≤ r ∧ r < 4016 + 8 * n then zN u + (r - (4008 + 8 * n)) else if r = 154 then b' else L.1 r) L (zN u) (zN u6) b' 154 (fun a => 4008 + 8 * n + (a - zN u)), ?_, ?_⟩
  · show (if 4008 + 8 * n ≤ 3 ∧ 3 < 4016 + 8 * n then _ else if 3 = 154 then b' else L.1 3) = L.1 3
    rw [if_neg (by omega), if_neg (by decide)]
  · have hf : ∀ q, OR m q → q ≠ 154 → (fun r => if 4008 + 8 * n ≤ r ∧ r < 4016 + 8 * n then zN u + (r - (4008 + 8 * n)) else if r = 154 then b' else L.1 r) q = L.1 q := by
      intro q hq hne
      have k0 := hP.2.1
      have e0 := hE.2.1
      have w0 := hW.2.1
      show (if 4008 + 8 * n ≤ q ∧ q < 4016 + 8 * n then _ else if q = 154 then b' else L.1 q) = L.1 q
      rw [if_neg (by unfold OR at hq; omega), if_neg hne]
    obtain ⟨r1, r2, r3, r4, r5, r6, r7, r8, r9, r10, r11, r12⟩ := grow_rest (f := fun r => if 4008 + 8 * n ≤ r ∧ r < 4016 + 8 * n then zN u + (r - (4008 + 8 * n)) else if r = 154 then b' else L.1 r) (nw := fun a => 4008 + 8 * n + (a - zN u)) h0 hML (by simp) v2 v3 hAD hf
    have rML := grow_ML (f := fun r => if 4008 + 8 * n ≤ r ∧ r < 4016 + 8 * n then zN u + (r - (4008 + 8 * n)) else if r = 154 then b' else L.1 r) (nw := fun a => 4008 + 8 * n + (a - zN u)) (el' := fun i => (fun r => if 4008 + 8 * n ≤ r ∧ r < 4016 + 8 * n then zN u + (r - (4008 + 8 * n)) else if r = 154 then b' else L.1 r) (4008 + 8 * i)) hR hML (by decide) v2 v3 hAD (hf 108 (by unfold OR; omega) (by decide)) (by show (if _ then _ else if 154 = 154 then b' else _) = b'; rw [if_neg (by omega), if_pos rfl]) (fun i hi => by show (if _ then _ else if _ then b' else _) = _; rw [if_neg (by omega), if_neg (by omega)]) (by show (if _ then _ else _) = _; rw [if_pos (by omega)]; omega)
    have hfe : ∀ q : Nat, 1 ≤ q → (q : Int) ≤ m.1 71 → (if 4008 + 8 * n ≤ 400 + q ∧ 400 + q < 4016 + 8 * n then zN u + (400 + q - (4008 + 8 * n)) else if 400 + q = 154 then b' else L.1 (400 + q)) = L.1 (400 + q) := fun q q1 q2 => hf (400 + q) (by unfold OR; omega) (by omega)
    generalize hLL : mkL (fun r => if 4008 + 8 * n ≤ r ∧ r < 4016 + 8 * n then zN u + (r - (4008 + 8 * n)) else if r = 154 then b' else L.1 r) L (zN u) (zN u6) b' 154 (fun a => 4008 + 8 * n + (a - zN u)) = L' at *
    have hL1 : ∀ r, L'.1 r = if 4008 + 8 * n ≤ r ∧ r < 4016 + 8 * n then zN u + (r - (4008 + 8 * n)) else if r = 154 then b' else L.1 r := fun r => by rw [← hLL]; rfl
    have hL2 : ∀ j, j < 4 → L'.2 (zN u + j) = 4008 + 8 * n + j := fun j hj => by
      rw [← hLL]
      show (if zN u + j < zN u then _ else if zN u + j < zN u6 then 4008 + 8 * n + (zN u + j - zN u) else _) = _
      rw [if_neg (by omega), if_pos (by rw [v1]; omega)]
      omega
    have m1 : ∀ k', k' ≠ 87 → (ma (ma (ma (ma (ma (ms m 87 (m.1 87 + 1)) 88 (n + 1) p) 89 (n + 1) ee) 90 (n + 1) d) 91 (n + 1) k) 92 (n + 1) 0).1 k' = m.1 k' := fun k' hk' => by simp only [ma_1]; rw [ms_1, if_neg hk']
    have m2 : ∀ k', k' ≠ 88 → k' ≠ 89 → k' ≠ 90 → k' ≠ 91 → k' ≠ 92 → (ma (ma (ma (ma (ma (ms m 87 (m.1 87 + 1)) 88 (n + 1) p) 89 (n + 1) ee) 90 (n + 1) d) 91 (n + 1) k) 92 (n + 1) 0).2 k' = m.2 k' := fun k' a1 a2 a3 a4 a5 => by rw [ma_o a5, ma_o a4, ma_o a3, ma_o a2, ma_o a1, ms_2]
    have m87 : (ma (ma (ma (ma (ma (ms m 87 (m.1 87 + 1)) 88 (n + 1) p) 89 (n + 1) ee) 90 (n + 1) d) 91 (n + 1) k) 92 (n + 1) 0).1 87 = (n : Int) + 1 := by simp only [ma_1]; rw [ms_1, if_pos rfl, hn]
    have mo : ∀ j i, i ≠ n + 1 → (ma (ma (ma (ma (ma (ms m 87 (m.1 87 + 1)) 88 (n + 1) p) 89 (n + 1) ee) 90 (n + 1) d) 91 (n + 1) k) 92 (n + 1) 0).2 j i = m.2 j i := by
      intro j i hi
      rw [ma_i hi, ma_i hi, ma_i hi, ma_i hi, ma_i hi, ms_2]
    have n88 : (ma (ma (ma (ma (ma (ms m 87 (m.1 87 + 1)) 88 (n + 1) p) 89 (n + 1) ee) 90 (n + 1) d) 91 (n + 1) k) 92 (n + 1) 0).2 88 (n + 1) = p := by simp [ma_2, va_up_e]
    have n89 : (ma (ma (ma (ma (ma (ms m 87 (m.1 87 + 1)) 88 (n + 1) p) 89 (n + 1) ee) 90 (n + 1) d) 91 (n + 1) k) 92 (n + 1) 0).2 89 (n + 1) = ee := by simp [ma_2, va_up_e]
    have n90 : (ma (ma (ma (ma (ma (ms m 87 (m.1 87 + 1)) 88 (n + 1) p) 89 (n + 1) ee) 90 (n + 1) d) 91 (n + 1) k) 92 (n + 1) 0).2 90 (n + 1) = d := by simp [ma_2, va_up_e]
    have n91 : (ma (ma (ma (ma (ma (ms m 87 (m.1 87 + 1)) 88 (n + 1) p) 89 (n + 1) ee) 90 (n + 1) d) 91 (n + 1) k) 92 (n + 1) 0).2 91 (n + 1) = k := by simp [ma_2, va_up_e]
    have n92 : (ma (ma (ma (ma (ma (ms m 87 (m.1 87 + 1)) 88 (n + 1) p) 89 (n + 1) ee) 90 (n + 1) d) 91 (n + 1) k) 92 (n + 1) 0).2 92 (n + 1) = 0 := by simp [ma_2, va_up_e]
    generalize ma (ma (ma (ma (ma (ms m 87 (m.1 87 + 1)) 88 (n + 1) p) 89 (n + 1) ee) 90 (n + 1) d) 91 (n + 1) k) 92 (n + 1) 0 = m' at *
    have hz : ∀ w, slc m' w = slc m w := fun w => slc_of (fun j q1 q2 => m2 j (by omega) (by omega) (by omega) (by omega) (by omega))
    have m2' : ∀ (l : List Nat) j, j ∈ l → (88 ∉ l ∧ 89 ∉ l ∧ 90 ∉ l ∧ 91 ∉ l ∧ 92 ∉ l) → m'.2 j = m.2 j := fun l j hj ⟨q1, q2, q3, q4, q5⟩ => m2 j (fun q => q1 (q ▸ hj)) (fun q => q2 (q ▸ hj)) (fun q => q3 (q ▸ hj)) (fun q => q4 (q ▸ hj)) (fun q => q5 (q ▸ hj))
    refine ⟨r1, RS_mm (fun k hk => m1 k (by rintro rfl; revert hk; decide)) r2, RA_mm (fun k hk => m1 k (by rintro rfl; revert hk; decide)) (fun k hk => m2' _ k hk (by decide)) r3, RJ_mm (fun k hk => m1 k (by rintro rfl; revert hk; decide)) (fun k hk => m2' _ k hk (by decide)) r4, ?_, ?_, ?_, ?_⟩
    · refine RW_mm (m := m) (m1 11 (by decide)) (fun w _ _ => hz w) ⟨hW.1, hW.2.1, ?_, fun w q1 q2 => ⟨(hW.2.2.2 w q1 q2).1, ?_⟩⟩
      · have := r5 (by decide); rw [← hLL] at this ⊢; exact this
      · have := r9 w q1 q2; rw [← hLL] at this ⊢; exact this
    · refine RE_mm (m := m) (m1 11 (by decide)) (m1 71 (by decide)) (fun k hk => m2' _ k hk (by decide)) (fun w _ _ => hz w) ⟨hE.1, hE.2.1, ?_, r10⟩
      have := r6 (by decide); rw [← hLL] at this ⊢; exact this
    · refine RP_mm (m := m) (by rw [m1 11 (by decide)]; exact Int.le_refl _) (m1 81 (by decide)) (fun k hk => m2' _ k hk (by decide)) ⟨hP.1, hP.2.1, ?_, r11⟩
      have := r7 (by decide); rw [← hLL] at this ⊢; exact this
    · unfold RK
      rw [m87]
      refine ⟨by omega, by omega, ?_, fun c q1 q2 => ?_, fun c hc => ?_⟩
      · rw [show ((n : Int) + 1).toNat = n + 1 by omega]
        rw [← hLL] at rML ⊢
        exact rML
      · by_cases hpn : c = n + 1
        · subst hpn
          have a0 : L'.1 (4000 + 8 * (n + 1)) = zN u := by rw [hL1, if_pos (by omega)]; omega
          have a1 : L'.1 (4001 + 8 * (n + 1)) = zN u + 1 := by rw [hL1, if_pos (by omega)]; omega
          have tg7 : ∀ a, a < zN u6 → zT u7 a = zT u6 a ∧ zL u7 a = zL u6 a := fun a ha => hAD.2.2.2.2.2.1.2 a ha
          have s7 : ∀ a, zN u ≤ a → a < zN u6 → zT u6 a ≠ 105 → sam u6 u7 a := by
            intro a hj hj2 ht
            refine hAD.2.2.2.2.2.2.2 _ (fun z => ?_) (fun z => ?_)
            · have := hML.1.2.2.2.2.2.2.1; omega
            · have := hAD.1.2.2.2.1
              rw [← z, (tg7 _ hj2).1] at this
              exact ht this
          have s0 := s7 (zN u) (by omega) (by omega) (by rw [v4]; decide)
          have s1 := s7 (zN u + 1) (by omega) (by omega) (by rw [v5]; decide)
          have l0 := hL2 0 (by omega)
          rw [Nat.add_zero] at l0
          obtain ⟨zz1, zz2⟩ := hK.2.2.2.2 (n + 1) (by omega)
          unfold KE
          rw [a0, n88, n89, n90, n91, n92, m2 107 (by decide) (by decide) (by decide) (by decide) (by decide), m2 108 (by decide) (by decide) (by decide) (by decide) (by decide), zz1, zz2, m1 81 (by decide), m1 71 (by decide), s0.1, s0.2.2.1, s0.2.2.2.1]
          refine ⟨v4, hG, by rw [l0]; omega, c1, by omega, by omega, by omega, by omega, ?_, c2, by omega, by omega, c3, by omega, by omega, by rw [c7, a1], ?_, fun k' hk' => by omega, c4, c5, by omega, by omega, by omega, by omega⟩
          · rw [c6, hL1, show ((ee : Int)).toNat = ee by omega, hfe ee (by omega) (by omega)]
          · refine KA_new (a := zN u + 1) (by omega) (by rw [s1.1]; exact v5) (by rw [s1.2.2.1]; exact v6) (fun j hj => ?_) (fun j hj => ⟨?_, ?_⟩)
            · obtain ⟨z1, z2, z3⟩ := v7 j hj
              have sj := s7 (zN u + 1 + 1 + j) (by omega) (by omega) (by rw [z2]; decide)
              exact ⟨by rw [s1.2.2.2.1]; exact z1, by rw [sj.1]; exact z2, by rw [sj.2.1]; exact z3⟩
            · rw [hL1, if_pos (by omega)]; omega
            · have := hL2 (1 + j) (by omega)
              rw [← Nat.add_assoc] at this
              rw [this]; omega
        · refine KE_mm (m := m) (by rw [m1 81 (by decide)]; exact Int.le_refl _) (by rw [m1 71 (by decide)]; exact Int.le_refl _) (fun j hj => mo j c hpn) (fun j i hj _ _ => by rw [m2 j (by omega) (by omega) (by omega) (by omega) (by omega)]) (r12 c q1 (by omega))
      · rw [m2 107 (by decide) (by decide) (by decide) (by decide) (by decide), m2 108 (by decide) (by decide) (by decide) (by decide) (by decide)]
        exact hK.2.2.2.2 c (by omega)

/-! THE CALL wording -/
theorem FRo_RC {G : CG} {L : Ly} {u t : Sg} {m : Mu} (h : RC G L u m) (hF : FRo (zN u) u t) : RC G L t m := RC_ext h ⟨hF.1, fun _ _ => rfl, fun q hq => by have := h.1.2.2.1 q hq; have := hF.1.1; omega⟩ (fun q hq => hF.2 q (h.1.2.2.1 q hq)) (fun _ _ => rfl)
/-- both ends behind a fault that was thrown in reading -/
theorem end_bad {G : CG} {L : Ly} {t : Sg} {m m' : Mu} {e : Nat} {K P w : Int} {C S cc nn : Nat} (h : RC G L t m) (h1 : zT t e = 9) (h2 : zI t e 326 = K) (h3 : zI t e 327 = P) (hK : 1 ≤ K ∧ K ≤ 7) (h8 : m'.1 8 = K) (h9 : m'.1 9 = P) (hf : mfr (2 :: 10 :: SF7) AF7 m m') (hs : ∀ w : Nat, 1 ≤ w → (w : Int) ≤ m.1 11 → slc m' w = slc m w) (hc : cc ≤ C) (hn : nn ≤ S) : sim ((f0_wording_b54 G (some (L.1 3)) (some e) t).map fun r => (r.1, r.2.1 + cc, r.2.2 + nn)) (m5_wording_b267 w m') (aftU G L C S) := by
  refine ⟨((-10 - K, zsI (zsI t (L.1 3) 3 P) (L.1 3) 2 0), 0 + cc, 0 + nn), (-10 - K, ms (ms m' 2 0) 10 P), by rw [c_end_bad h h1 h2 h3]; rfl, m_end_bad h8 h9 hK, rfl, by dsimp only; omega, by dsimp only; omega, L, rfl, ?_⟩
  refine RC_bad h ⟨fun k hk => ?_, fun k hk => hf.2 k hk⟩ (fun w a b => hs w a b) ?_ ?_
  · simp only [List.mem_cons, not_or] at hk
    rw [ms_1, if_neg hk.2.1, ms_1, if_neg hk.1]
    exact hf.1 k (by simp only [List.mem_cons, not_or]; exact hk)
  · rw [ms_1, if_neg (by decide), ms_1, if_pos rfl]
  · rw [ms_1, if_pos rfl]
theorem o_wording {G : CG} {L : Ly} {u : Sg} {m : Mu} (h : RC G L u m) (hT : m.1 2 ≤ 512) : sim (f0_wording G (some (L.1 3)) u) (m5_wording m) (aftU G L (20 * (m.1 2).toNat + 60) (600 * (m.1 2).toNat + 15500)) := by
  have hR := h.1
  have hW := h.2.2.2.2.1
  have h2 := h.2.1.2.1
  unfold f0_wording m5_wording
  refine sim_L (gfR_v (rT3 hR) (rR3_5 hR)) (sim_L (ztg_e hW.2.2.1.1.1) (sim_L (sz_int hW.1 hW.2.2.1) (sim_ite Iff.rfl (fun _ => sim_some ⟨rfl, Nat.zero_le _, Nat.zero_le _, L, rfl, h⟩) (fun hc => ?_))))
  have w0 := hW.1
  have w12 := hW.2.1
  rw [w32_id (by omega) (by omega)] at hc
  have hm11 : m.1 11 ≤ 11 := by omega
  obtain ⟨n, hn⟩ : ∃ n : Nat, m.1 11 = n := ⟨(m.1 11).toNat, by omega⟩
  have h4 : RC G L (zsI u (L.1 3) 3 (-1)) (ms m 10 (-1)) := RC_fp h (-1)
  obtain ⟨t1, m1, m3, X, b1, b2, b3, b4, b5, b6, b7, b8, ⟨b9, b47⟩, b10⟩ := begin7 h hT
  refine sim_L (pfI_e (rT3 hR) (rG3 hR)) ?_
  have eN : zN (zsI u (L.1 3) 3 (-1)) = zN u := rfl
  rw [b4, Option.bind_some, b5, Option.bind_some]
  have ez1 : ∀ (β : Type) (k : Nat × Sg → Option (β × Nat × Nat)), bdU (zNew (zsI u (L.1 3) 3 (-1)) 7 14) k = (k (zN u, znew (zsI u (L.1 3) 3 (-1)) 7 0)).map fun r => (r.1, r.2.1 + 1, r.2.2 + 14) := fun β k => rfl
  rw [ez1]
  dsimp only
  rw [b1, bdU_e]
  have ez2 : ∀ (β : Type) (k : Nat × Sg → Option (β × Nat × Nat)), bdU (zNew t1 8 11) k = (k (zN u + 8, znew t1 8 0)).map fun r => (r.1, r.2.1 + 1, r.2.2 + 11) := fun β k => by unfold zNew; rw [bdU_e, b2]
  rw [ez2]
  dsimp only
  rw [b3]
  have fr10 : ∀ {m'}, mfr SF7 AF7 m m' → mfr (2 :: 10 :: SF7) AF7 (ms m 10 (-1)) m' := fun {m'} q => ⟨fun k hk => by
    simp only [List.mem_cons, not_or] at hk
    rw [ms_1, if_neg hk.2.1]; exact q.1 k hk.2.2, fun k hk => q.2 k hk⟩
  rcases b10 with ⟨t3, κ, W, x1, x2, x3⟩ | ⟨e, t3, x1, x2, x3, x4⟩
  · rw [x1, bdU_z]
    show sim (Option.map _ (Option.map _ (Option.map _ ((ztg t3 8 (some (zN u + 8))).bind _)))) _ _
    rw [ztg_e x2.1.1.1.1.1, Option.bind_some, XW_e]
    have htk := x2.1.1.2.2.1.2.2.2
    rcases wloop NN NN κ t3 m3 W x2 (by have := NN_ge; omega) (by have := NN_ge; omega) with ⟨t', cc, nn, m', κ', W', y1, y2, y3, y4, y5, y6, y7, y8, y9⟩ | ⟨e, t', cc, nn, K, P, m', y1, y2, y3, y4, y5, y6⟩
    · -- all was read
      rw [y1, y2, Option.bind_some, bdU_e]
      obtain ⟨fr, hsl⟩ := fr_read b6 b7 b8 y6
      have hFR := FRo_tr x3 y5
      have hR7 := y3.1.1
      have h8' : m'.1 8 = 0 := hR7.2.2.2.2.2
      have h11' : m'.1 11 = (n : Int) := by rw [fr.1 11 (by decide)]; exact hn
      have e47 : m'.1 47 = 300 := by rw [y6.1.1 47 (by decide)]; exact b47
      have e2 : m'.1 2 = m.1 2 := fr.1 2 (by decide)
      have hp5 : m'.1 5 = m.1 2 := by
        rcases hR7.2.2.1.2.2.2.2.2 with z | z
        · rw [z.2.2]; exact e2
        · have := z.2
          rcases this with q | q | q | q
          · omega
          · omega
          · have := q.2.1; omega
          · have := q.2.1; omega
      have hWB := y3.2.1.2.1
      have hZ := y3.2.2.2.1
      have h300 : m'.1 46 ≤ 300 := by have := hR7.2.2.2.1.2.1.2; have := hZ.1.2; omega
      have a19 : m'.2 19 0 = (nM W' : Int) := by
        have : slc m' 0 19 0 = (nM W' : Int) := by rw [hWB.1]; exact hWB.2.2.2.1
        exact this
      have a27 : m'.2 27 0 = (nP W' : Int) := by
        have : slc m' 0 27 0 = (nP W' : Int) := by rw [hWB.1]; exact hWB.2.2.2.2.2.1
        exact this
      obtain ⟨mc, c1, c2, c3⟩ := m_wcopy (m := m') (w := n + 1) (nm := nM W') (np := nP W') (nc := (m'.1 56).toNat) (made := (m'.1 46).toNat) (by omega) a19 hWB.2.2.2.2.1 a27 hWB.2.2.2.2.2.2.1 (by have := hWB.2.2.2.2.2.2.2.1; omega) (by have := hWB.2.2.2.2.2.2.2.2.1; omega) (by have := hZ.2.1; omega) (by omega)
      rw [m_wcopy_b46 h8' (by rw [h11']; rfl) c1]
      obtain ⟨f1, f2, f3, f4, f5, ⟨fl, fb, f6⟩, f7⟩ := IX_fin h4 y3 hFR c3 e47
      have hFH : FH G (LAw L (zN u) κ') t' (zN u) (slc mc (n + 1)) fl fb := ⟨f3, f4, f2, ⟨f5.1, hR.2.2.2.2.1, f5.2.2⟩, f6, f7⟩
      have mc8 : mc.1 8 = 0 := by rw [c2.1]; exact h8'
      obtain ⟨ns, as, mf, g1, g2, g3, g4, g5⟩ := m_finish (m := mc) (w := n + 1) rfl (by omega) f3 f4 mc8
      rw [g1, Option.bind_some]
      have T3 : zT t' (L.1 3) = 1 := (show zT t' ((LAw L (zN u) κ').1 3) = 1 from rT3 f1.1)
      show sim (Option.map _ (Option.map _ (Option.map _ (Option.map _ ((ztg t' 1 (some (L.1 3))).bind _))))) _ _
      rw [ztg_e T3, Option.bind_some]
      -- the twin's frame up to finish
      have frc : mfr SF7 AF7 m' mc := ⟨fun k _ => by rw [c2.1], fun k hk => c2.2.1 k (by
        simp only [AF7, KA7, List.mem_cons, List.not_mem_nil, or_false, not_or] at hk ⊢; omega)⟩
      have frf : mfr SF7 AF7 m mf := mfr_tr fr (mfr_tr frc (mfr_up g3 (by decide) (by decide)))
      have slf : ∀ v, 1 ≤ v → v ≤ n → slc mf v = slc m v := fun v v1 v2 => by rw [g4 v (by omega), slc_mpl_o c2 (by omega), hsl v v1]
      rcases g5 with ⟨k1, k2, k3⟩ | ⟨k1, k2, k3, k4, k5, k6⟩
      · obtain ⟨e, t'', z1, z2, z3, z4, z5, z6⟩ := c_finA f1 hFH g2 k1
        have z1 : f0_finish G (some (L.1 3)) (some (zN u)) t' = some ((.inl e, t''), 1, 8) := z1
        rw [z1, bdU_e]
        show sim (Option.map _ (Option.map _ (Option.map _ (Option.map _ (Option.map _ ((ztg t'' 9 (some e)).bind _)))))) _ _
        rw [ztg_e z2, Option.bind_some]
        have I32 : zI t' (L.1 3) 2 = m'.1 2 := hR7.1.2.1.2.1
        have := end_bad (w := ((n + 1 : Nat) : Int)) (C := 20 * (m.1 2).toNat + 60 - (cc + 10)) (S := 600 * (m.1 2).toNat + 15500 - (nn + 46)) (cc := 1) (nn := 8) z6 z2 z3 (z4.trans I32) (by omega) k2 (by rw [k3, c2.1, hp5, ← e2]) (fr10 frf) (fun w a b => slf w a (by rw [ms_1, if_neg (by decide), hn] at b; omega)) (by omega) (by omega)
        obtain ⟨⟨pr, pc, pn⟩, pb, q1, q2, q3, q4, q5, L', q6, q7⟩ := this
        have q1' : (f0_wording_b54 G (some (L.1 3)) (some e) t'').map (fun r => (r.1, r.2.1 + 1, r.2.2 + 8)) = some (pr, pc, pn) := q1
        rw [q1']
        dsimp only at q3 q4 q5
        exact ⟨_, pb, rfl, q2, q3, by dsimp only; omega, by dsimp only; omega, L', q6, q7⟩
      · have hn11 : (ms m 10 (-1)).1 11 ≤ 11 := by rw [ms_1, if_neg (by decide)]; exact hm11
        obtain ⟨t9, t10, b', L9, c9, n9, z1, z2, z3, z4, z5, z6, z7, z8, z9⟩ := c_finB f1 hFH g2 k1 k3 k4 k5 k6 hn11
        have e11 : (ms m 10 (-1)).1 11 = (n : Int) := by rw [ms_1, if_neg (by decide)]; exact hn
        have z1 : f0_finish G (some (L.1 3)) (some (zN u)) t' = some ((.inr (((n + 1 : Nat)) : Int), t10), c9, n9) := by
          have := z1
          rw [e11, Int.toNat_natCast] at this
          exact this
        rw [e11, Int.toNat_natCast] at z8
        rw [z1, bdU_e]
        obtain ⟨mr, hmr⟩ : ∃ mr, mr = ms (ms mf 10 (-1)) 11 ((n : Int) + 1) := ⟨_, rfl⟩
        have mr1 : ∀ k, mr.1 k = if k = 11 then (n : Int) + 1 else if k = 10 then -1 else mf.1 k := fun k => by
          rw [hmr, ms_1]
          by_cases z : k = 11
          · rw [if_pos z, if_pos z]
          · rw [if_neg z, if_neg z, ms_1]
        have slr : ∀ v, slc mr v = slc mf v := fun v => by rw [hmr]; rfl
        have frr : mfr (11 :: SF7) AF7 (ms m 10 (-1)) mr := ⟨fun k hk => by
          simp only [List.mem_cons, not_or] at hk
          rw [mr1, if_neg hk.1, ms_1]
          by_cases z : k = 10
          · rw [if_pos z, if_pos z]
          · rw [if_neg z, if_neg z]; exact frf.1 k hk.2, fun k hk => by rw [hmr]; exact frf.2 k hk⟩
        have z8' : AD G t9 t10 (L9.1 105) (L9.1 151) b' n (some (zN u)) := by rw [z6]; exact z8
        obtain ⟨L', q1, q2⟩ := RC_reg (m' := mr) z4 e11 (by omega) (by rw [slr]; exact z5) (by rw [slr]; exact k3) z8' frr (by rw [mr1, if_pos rfl]) (fun v v1 v2 => by rw [slr, slf v v1 v2]; rfl)
        have q3 := RC_ts q2
        have e3' : L'.1 3 = L.1 3 := by rw [q1, z6]; rfl
        have emr : ms mr 2 0 = ms (ms (ms mf 2 0) 10 (-1)) 11 (mf.1 11 + 1) := by
          refine Mu_e (fun k => ?_) (by rw [hmr]; rfl)
          have ef : mf.1 11 = (n : Int) := by rw [frf.1 11 (by decide)]; exact hn
          rw [ms_1, mr1, ms_1, ms_1, ms_1, ef]
          by_cases y1 : k = 2
          · rw [if_pos y1, if_neg (by omega), if_neg (by omega), if_pos y1]
          · rw [if_neg y1, if_neg y1]
        rw [emr, e3'] at q3
        have T10 : zT t10 (L.1 3) = 1 := by rw [← e3']; exact rT3 q2.1
        refine ⟨((((n + 1 : Nat) : Int), zsI t10 (L.1 3) 2 0), 0 + c9 + cc + 1 + 7 + 1, 0 + n9 + nn + 11 + 21 + 14), _, ?_, m_end_good k2, ?_, ?_, ?_, L', e3', q3⟩
        · show Option.map _ (Option.map _ (Option.map _ (Option.map _ (Option.map _ (f0_wording_b61 G (some (L.1 3)) _ t10))))) = _
          unfold f0_wording_b61
          rw [pfI_e T10 (rG3 hR), Option.bind_some]
          rfl
        · rfl
        · dsimp only; omega
        · dsimp only; omega
    · -- a fault was thrown
      rw [y1, y3, Option.bind_some, bdU_e]
      obtain ⟨fr, hsl⟩ := fr_read b6 b7 b8 y6
      obtain ⟨r1, ⟨r2, r2'⟩, r3, r4, r5, r6, r7, r8⟩ := y2
      have hRC := FRo_RC h4 (FRo_tr x3 r5)
      have hle : P ≤ m.1 2 := by
        have j3 : Jt (m.1 2) m3 := ⟨⟨b8 2 (by decide), h2, by omega⟩, ⟨by omega, by have := b8 2 (by decide); omega⟩, by have := b8 2 (by decide); omega, Or.inl x2.1.1.2.2.2.2.2⟩
        have j4 := J_wording_l25 _ _ j3 _ y3
        rcases j4.2.2.2 with z | z
        · rw [y4] at z; omega
        · rw [y5] at z; exact z
      show sim (Option.map _ (Option.map _ (Option.map _ (Option.map _ ((ztg t' 9 (some e)).bind _))))) _ _
      rw [ztg_e r1, Option.bind_some]
      have e46 : m5_wording_b46 m' = m5_wording_b267 (m'.1 11 + 1) m' := by
        unfold m5_wording_b46
        rw [y4, if_neg (by rw [w32_id (by omega) (by omega)]; omega)]
      rw [e46]
      have := end_bad (w := m'.1 11 + 1) (C := 20 * (m.1 2).toNat + 60 - 9) (S := 600 * (m.1 2).toNat + 15500 - 46) (cc := cc) (nn := nn) hRC r1 r2 r3 (by omega) y4 y5 (fr10 fr) (fun w a b => hsl w a) (by omega) (by omega)
      obtain ⟨⟨pr, pc, pn⟩, pb, q1, q2, q3, q4, q5, L', q6, q7⟩ := this
      rw [q1]
      dsimp only at q3 q4 q5
      exact ⟨_, pb, rfl, q2, q3, by dsimp only; omega, by dsimp only; omega, L', q6, q7⟩
  · -- the first token is bad
    rw [x1, bdU_e]
    obtain ⟨m', y1, y2, y3, y4⟩ := m_l25_bad x3 x4
    rw [y1, Option.bind_some]
    obtain ⟨fr, hsl⟩ := fr_read b6 b7 b8 (MI_7 y4)
    obtain ⟨r1, ⟨r2, r2'⟩, r3, r4, r5, r6, r7, r8⟩ := x2
    have hRC := FRo_RC h4 r5
    show sim (Option.map _ (Option.map _ (Option.map _ (Option.map _ ((ztg t3 9 (some e)).bind _))))) _ _
    rw [ztg_e r1, Option.bind_some]
    have e46 : m5_wording_b46 m' = m5_wording_b267 (m'.1 11 + 1) m' := by
      unfold m5_wording_b46
      rw [y2, if_neg (by decide)]
    rw [e46]
    have := end_bad (w := m'.1 11 + 1) (C := 51) (S := 15454) (cc := 1) (nn := 8) hRC r1 r2 r3 (by omega) y2 (y3.trans rfl) (fr10 fr) (fun w a b => hsl w a) (by omega) (by omega)
    obtain ⟨⟨pr, pc, pn⟩, pb, q1, q2, q3, q4, q5, L', q6, q7⟩ := this
    rw [q1]
    dsimp only at q3 q4 q5
    exact ⟨_, pb, rfl, q2, q3, by dsimp only; omega, by dsimp only; omega, L', q6, q7⟩

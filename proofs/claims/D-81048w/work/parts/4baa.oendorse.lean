/-! THE CALL endorse -/
theorem o_endorse {G : CG} {L : Ly} {u : Sg} {m : Mu} (h : RC G L u m) (hT : m.1 2 ≤ 512) (v : Int) (hv : w32 v = v) : sim (f0_endorse G (some (L.1 3)) v u) (m5_endorse v m) (aftU G L (20 * (m.1 2).toNat + 100) (600 * (m.1 2).toNat + 18500)) := by
  have hR := h.1
  have hW := h.2.2.2.2.1
  have h2 := h.2.1.2.1
  have w0 := hW.1
  have w12 := hW.2.1
  unfold f0_endorse m5_endorse
  refine sim_L (ztg_e (rT3 hR)) (sim_L (c_isW h hv) ?_)
  rw [w32_b2i, ite_b2i, hv, w32_id (x := m.1 11) (by omega) (by omega)]
  by_cases kW : 1 ≤ v ∧ v ≤ m.1 11
  rotate_left
  · rw [if_neg kW]
    by_cases z : v < 1
    · rw [if_pos z]; exact sim_some ⟨rfl, Nat.zero_le _, Nat.zero_le _, L, rfl, h⟩
    · rw [if_neg z, if_neg (by omega)]; exact sim_some ⟨rfl, Nat.zero_le _, Nat.zero_le _, L, rfl, h⟩
  rw [if_pos kW, if_neg (by omega), if_pos kW.2]
  refine sim_L (gfR_v (rT3 hR) (rR3_5 hR)) (sim_L (ztg_e hW.2.2.1.1.1) (sim_L (sz_int hW.1 hW.2.2.1) ?_))
  rw [w32_id (x := m.1 11) (by omega) (by omega)]
  by_cases hc : m.1 11 = 12
  · rw [if_pos hc, if_pos hc]; exact sim_some ⟨rfl, Nat.zero_le _, Nat.zero_le _, L, rfl, h⟩
  rw [if_neg hc, if_neg hc]
  obtain ⟨n, hn⟩ : ∃ n : Nat, m.1 11 = n := ⟨(m.1 11).toNat, by omega⟩
  obtain ⟨w, rfl⟩ : ∃ w : Nat, v = w := ⟨v.toNat, by omega⟩
  have h4 : RC G L (zsI u (L.1 3) 3 (-1)) (ms m 10 (-1)) := RC_fp h (-1)
  refine sim_L (pfI_e (rT3 hR) (rG3 hR)) ?_
  obtain ⟨u0, hu0⟩ : ∃ u0, u0 = zsI u (L.1 3) 3 (-1) := ⟨_, rfl⟩
  rw [← hu0] at h4 ⊢
  have N0 : zN u0 = zN u := by rw [hu0]; rfl
  have s0 : ∀ q, q ≠ L.1 3 → sam u u0 q := fun q hq => by rw [hu0]; exact sam_zI hq
  have hR0 := h4.1
  obtain ⟨N, hN⟩ : ∃ N, N = zN u0 := ⟨_, rfl⟩
  have hRL : ∀ q, L.2 q ≠ 0 → q < N := fun q hq => by rw [hN]; exact hR0.2.2.1 q hq
  have hG := hR0.2.2.2.2.1
  have l3N : L.1 3 < N := hRL _ (by rw [rC3 hR]; decide)
  have l100N : L.1 100 < N := hRL _ (by rw [rC100 hR]; decide)
  have l101N : L.1 101 < N := hRL _ (by rw [rC101 hR]; decide)
  have St0 : St G u0 := hR0.2.2.2.2.2.1
  -- the new wording
  obtain ⟨t1, bE, e6, hE, B1, ⟨i245, i246, i248⟩, ⟨d1, d2, d3⟩, N1⟩ := f6_new (G := G) (u := u0) (by omega) St0
  rw [← hN] at e6 B1 i245 i246 i248 d1 d2 d3 N1 hG
  obtain ⟨⟨B11, B12⟩, ⟨-, B13a, B13⟩, B14, B15, B16, B17⟩ := B1
  obtain ⟨bE', hE', hbG, hbT, hbL, hbB⟩ := St0.2.1
  rw [hE] at hE'
  cases hE'
  have ez1 : ∀ (β : Type) (k : Nat × Sg → Option (β × Nat × Nat)), bdU (zNew u0 7 14) k = (k (N, znew u0 7 0)).map fun r => (r.1, r.2.1 + 1, r.2.2 + 14) := fun β k => by rw [hN]; rfl
  rw [ez1]
  dsimp only
  rw [e6, bdU_e]
  have B12' : ∀ q, q < N → sam u0 t1 q := fun q hq => B12 q (by omega)
  have RC1 : RC G L t1 (ms m 10 (-1)) := FRo_RC h4 ⟨B11, fun q hq => B12' q (by omega)⟩
  have hn10 : (ms m 10 (-1)).1 11 = (n : Int) := by rw [ms_1, if_neg (by decide)]; exact hn
  have w1 : 1 ≤ w ∧ w ≤ n := by omega
  obtain ⟨W, hWm⟩ : ∃ W, slc m w = W := ⟨_, rfl⟩
  obtain ⟨hM, hA0⟩ := h4.2.2.2.2.1.2.2.2 w w1.1 (by rw [hn10]; omega)
  rw [show slc (ms m 10 (-1)) w = W from hWm] at hM hA0
  obtain ⟨o, ho⟩ : ∃ o, o = L.1 (300 + w) := ⟨_, rfl⟩
  rw [← ho] at hA0
  show sim (Option.map _ (Option.map _ ((ztg t1 1 (some (L.1 3))).bind _))) _ _
  rw [ztg_e (rT3 RC1.1), Option.bind_some, c_the RC1 w1.1 (by rw [hn10]; omega), Option.bind_some, ← ho, ztg_e B13, Option.bind_some]
  -- what the old wording has
  obtain ⟨⟨c0, To⟩, ⟨l1, el1, q1, f1, F1⟩, ⟨l2, el2, q2, f2, F2⟩, ⟨l3, el3, q3, f3, Fc3⟩, ⟨l4, oel, q4, f4, F4⟩, ⟨l5, el5, q5, f5, F5⟩, A6, A7, A8, A9⟩ := id hA0
  have frz1 : frz L L u0 t1 := ⟨B11, fun q hq => ⟨hq, B12' q (hRL q (by omega))⟩⟩
  have hA1 : WA G L t1 o W := WA_k frz1 hA0
  have so1 := B12' o (hRL o (by omega))
  have sb1 := B12' bE (by omega)
  have hl1 : ∀ k, k = 1 ∨ k = 2 ∨ k = 3 ∨ k = 4 ∨ k = 5 ∨ k = 7 → zT t1 (N + k) = 6 ∧ zR t1 (N + k) 201 = some bE ∧ zI t1 (N + k) 202 = 0 := fun k hk => by
    have key : ∀ j, fE N j = some (N + k) → j ≠ 247 → zT t1 (N + k) = 6 ∧ zR t1 (N + k) 201 = some bE ∧ zI t1 (N + k) 202 = 0 := fun j h1 h2 => by
      obtain ⟨-, -, k3, k4, k5⟩ := B15 j _ h1 h2
      exact ⟨k3, k4, k5⟩
    rcases hk with rfl | rfl | rfl | rfl | rfl | rfl
    · exact key 240 (by unfold fE; simp) (by decide)
    · exact key 241 (by unfold fE; simp) (by decide)
    · exact key 242 (by unfold fE; simp) (by decide)
    · exact key 243 (by unfold fE; simp) (by decide)
    · exact key 244 (by unfold fE; simp) (by decide)
    · exact key 250 (by unfold fE; simp) (by decide)
  obtain ⟨t2, ⟨⟨t2', ca, na⟩, x1, x1', x1c, x1n⟩, x2, x3, x4⟩ := c_take (G := G) (L := L) (t := t1) (N := N) (o := o) (bE := bE) hM hA1 ⟨hE, hbG, by rw [sb1.1]; exact hbT, by rw [sb1.2.1]; exact hbL, fun i => by rw [sb1.2.2.2.2.2]; exact hbB i⟩ hG (by omega) (fun q hq => hRL q (by omega)) B13 B14 (fun k hk => hl1 k (by omega)) ⟨d1, d2⟩ (by rw [so1.2.2.2.1]; exact q1) (LF_k frz1 f1) (by rw [so1.2.2.2.1]; exact q2) (LF_k frz1 f2) (by rw [so1.2.2.2.1]; exact q3) (LF_k frz1 f3) (by rw [so1.2.2.2.1]; exact q5) (LF_k frz1 f5)
  have x1' : t2' = t2 := x1'
  subst x1'
  rw [x1, bdU_e]
  have x1c : ca ≤ 8 := x1c
  have x1n : na ≤ 220 := x1n
  have N2' := x2.1
  have s2 : ∀ q, q < N → sam u0 t2' q := fun q hq => sam_tr (B12' q hq) (x3 q (by omega) (by omega) (by omega) (by omega) (by omega) (by omega) (by omega))
  have g2 : gro u0 t2' := gro_tr B11 x2
  obtain ⟨N2, hN2⟩ : ∃ N2, N2 = zN t2' := ⟨_, rfl⟩
  -- the reader
  have ez2 : ∀ (β : Type) (k : Nat × Sg → Option (β × Nat × Nat)), bdU (zNew t2' 8 11) k = (k (N2, znew t2' 8 0)).map fun r => (r.1, r.2.1 + 1, r.2.2 + 11) := fun β k => by rw [hN2]; rfl
  rw [ez2]
  dsimp only
  have s3' := s2 (L.1 3) l3N
  obtain ⟨m3, b1, b2, b3, ⟨b4, b5, b6, b7, b8, b9, b10⟩, b11⟩ := beginG h hT (t1 := t2') (fun q hq1 hq2 => sam_tr (s0 q hq2) (s2 q (by omega))) (by
    rw [s3'.1, s3'.2.2.2.1, s3'.2.2.1, hu0]; exact ⟨(rT3 hR : zT u (L.1 3) = 1), rfl, by rw [zsI_I, if_neg (fun z => absurd z.2 (by decide))]⟩) (by omega) (some N) (v := 4000) (vv := 5000) (Or.inr ⟨rfl, rfl⟩) (w : Int)
  rw [← hN2] at b11
  rw [b1, Option.bind_some]
  have b2' : m3.1 2 = m.1 2 := b3 2 (by decide)
  have sl3 : ∀ k, slc m3 k = slc m k := fun k => by funext i j; unfold slc; rw [b2]
  have hM1 := hM.1
  have c24 : nC W ≤ 24 := by unfold nC; omega
  have e23 : W 23 0 = (nC W : Int) := by unfold nC; omega
  have p24 : nP W ≤ 24 := by unfold nP; omega
  obtain ⟨m4, y1, y2, y3, y4⟩ := m_l37 (m := m3) (v := w) (W := W) (by omega) (by rw [sl3]; exact hWm) e23 c24
  rw [y1, Option.bind_some]
  have fr4 : mfr SF7 AF7 m m4 := ⟨fun k hk => by rw [y2, b3 k (fun z => hk ((by decide : ∀ k ∈ [3, 4, 5, 6, 7, 8, 46, 47, 51, 52, 56], k ∈ SF7) k z))], fun k hk => by rw [y3 k (fun e => hk (by rw [e]; decide)), b2]⟩
  have sl4 : ∀ k, slc m4 k = slc m k := fun k => by rw [slc_fr (S := []) (T := [57]) ⟨fun k _ => by rw [y2], fun k hk => y3 k (by simpa using hk)⟩ (by decide), sl3]
  have frE : ∀ {m'}, MIe m4 m' → mfr SF7 AF7 m m' ∧ ∀ v, 1 ≤ v → slc m' v = slc m v := fun {m'} q => ⟨mfr_tr fr4 (mfr_up q.1 (by decide) (by decide)), fun v hv => by rw [q.2 v hv, sl4]⟩
  have fr10 : ∀ {m''}, mfr SF7 AF7 m m'' → mfr (2 :: 10 :: SF7) AF7 (ms m 10 (-1)) m'' := fun {m''} q => ⟨fun k hk => by
    simp only [List.mem_cons, not_or] at hk
    rw [ms_1, if_neg hk.2.1]; exact q.1 k hk.2.2, fun k hk => q.2 k hk⟩
  have j3 : Jt (m.1 2) m3 ∨ True := Or.inr trivial
  -- the twin's end behind a fault
  have yend : ∀ {Y : Option (Mu ⊕ Mu)} {m' : Mu}, (Y = some (.inl m') ∨ Y = some (.inr m')) → (1 ≤ m'.1 8 ∧ m'.1 8 ≤ 6) → (Y.bind (Sum.elim (fun q3 => m5_endorse_b283 w q3) (fun q4 => m5_endorse_b283 w q4))) = m5_wording_b267 (m'.1 11 + 1) m' := fun {Y m'} hY h8 => by
    have e : m5_endorse_b283 w m' = m5_wording_b267 (m'.1 11 + 1) m' := by
      unfold m5_endorse_b283
      rw [w32_id (x := m'.1 8) (by omega) (by omega), if_neg (by omega), eb303]
    rcases hY with rfl | rfl
    · exact e
    · exact e
  have hJ0 : 0 ≤ m.1 2 ∧ m.1 2 ≤ 4000 := by omega
  rcases b11 with ⟨t3, p1, p2, p3, p4, p5, p6, p7, p8⟩ | ⟨e, t3, p1, p2, p3, p4, p5, p6, p7⟩
  · -- the reader has its first token
    rw [p1, bdU_z]
    have F3 : FRo N u0 t3 := ⟨gro_tr g2 p4.1, fun q hq => sam_tr (s2 q hq) (p4.2 q (by omega))⟩
    have RC3 : RC G L t3 (ms m 10 (-1)) := FRo_RC h4 (by rw [← hN]; exact F3)
    have frz3 : frz L L u0 t3 := ⟨F3.1, fun q hq => ⟨hq, F3.2 q (hRL q (by omega))⟩⟩
    show sim (Option.map _ (Option.map _ (Option.map _ (Option.map _ ((ztg t3 1 (some (L.1 3))).bind _))))) _ _
    have T8 : zT t3 N2 = 8 := p2.1.1.1
    rw [ztg_e (rT3 RC3.1), Option.bind_some, c_the RC3 w1.1 (by rw [hn10]; omega), Option.bind_some, ← ho, ztg_e T8, Option.bind_some]
    obtain ⟨d4, g41, g42, g43, g44⟩ := LF_k frz3 f4
    have so3 := F3.2 o (hRL o (by omega))
    have sb3 := F3.2 bE (by omega)
    obtain ⟨e7, k71, k72, k73, k74, k75⟩ := St0.2.2.1
    have s73 := F3.2 e7 (by omega)
    have N3' := F3.1.1
    obtain ⟨kl, kb, ch, ml, uu, c, s, v1, v2, v3, v4, v5, ⟨v6, v7, v8, v9, v10⟩, ⟨v11, v12, v13, v14⟩, v15, v16, v17, v18, v19⟩ := e_setup (G := G) (t := t3) (r := N2) (o := o) (l4 := l4) (d4 := d4) (n := nC W) (bE := bE) (e7 := e7) (oel := oel) (by omega) ⟨by rw [so3.1]; exact To, by rw [so3.2.2.2.1]; exact q4, by have := hRL o (by omega); omega⟩ g41 g44 c24 ⟨hE, by omega, by rw [sb3.1]; exact hbT, by rw [sb3.2.1]; exact hbL, fun i => by rw [sb3.2.2.2.2.2]; exact hbB i⟩ ⟨k71, by rw [s73.1]; exact k73, by rw [s73.2.1]; exact k74, by omega, fun i => by rw [s73.2.2.2.2.2]; exact k75 i⟩
    rw [v1]
    -- the loop begins
    have hLK2 : LK (fun q => q < N2) t2' N W := LK_tkd (t1 := u0) hM x4 F1 F2 (fun q hq => ⟨s2 q (hRL q (by omega)), by have := hRL q (by omega); omega⟩) (by omega) (by omega)
    have hCTE : CTE G L N2 N w W N2 t2' := ⟨hLK2, ⟨by omega, by omega, by omega, by omega⟩, ⟨by omega, Nat.le_refl _⟩, hM⟩
    have E3 : EN G L N2 N w W t3 m3 0 := ⟨⟨⟨p2, p3, ⟨LK_k (fun q hq => ⟨p4.2 q (by have : q < N2 := hq; omega), by have : q < N2 := hq; omega, by have : q < N2 := hq; omega⟩) p4.1 hLK2, p6⟩, ⟨by rw [sl3]; exact hWm, by omega, b6⟩, p8⟩, p5⟩, ⟨by rw [b7, b8], by rw [b7]; exact Int.le_refl _, by rw [b7]; exact b4⟩, by rw [b9]; rfl, by show 3 * ((0 : Nat) : Int) ≤ _; omega⟩
    have gU : gro t2' uu ∧ ∀ q, q < N2 → sam t2' uu q := ⟨gro_tr p4.1 v4, fun q hq => sam_tr (p4.2 q (by omega)) (v5 q (by omega))⟩
    have EU : EN G L N2 N w W uu m4 0 := EN_o E3 v4 (fun q hq => v5 q (by omega)) hLK2 gU (Nat.le_refl _) hCTE.2.1 y2 (y3 0 (by decide)) (y3 1 (by decide)) (by rw [sl4, sl3])
    have hNu := v4.1
    have BU : EB G N2 W oel kl kb ch ml N2 (zN uu) t2' (m4.2 57) (m4.2 57) [] (fun _ => 0) bE (fun _ => 0) uu m4 0 := by
      refine ⟨⟨gU, Nat.le_refl _, ⟨Nat.le_refl _, by omega, by rw [(v5 N2 (by omega)).1]; exact T8⟩, by omega⟩, fun q hq => absurd rfl hq, ⟨v6, v7, fun hh => by have := v8 hh; omega, ⟨by omega, v9.2⟩, fun k hk => ?_⟩, ⟨v11, v12, ⟨by omega, v13.2⟩, fun k hk => by rw [v14, y4 k hk, if_pos rfl]⟩, ⟨v15, v16, ⟨by omega, v18, v19⟩, fun q => ?_, fun _ => hbG, fun i hi => absurd hi (Nat.not_lt_zero _)⟩, fun j hj => absurd hj (Nat.not_lt_zero _)⟩
      · rw [v10 k hk, y4 k hk]; rfl
      · rw [(v5 bE (by omega)).2.1, sb3.2.1, hbL] at q; omega
    have hEF : EF G L N2 N w W oel kl kb ch ml N2 (zN uu) t2' (fun _ => 0) bE (fun _ => 0) uu m4 0 := by
      refine ⟨EU, BU, fun k hk => Or.inl (y4 k hk), fun j hj => absurd hj (Nat.not_lt_zero _), ?_⟩
      have e0 : lsm (fun k => if 0 ≤ m4.2 57 k then m4.2 55 (m4.2 57 k).toNat - m4.2 54 (m4.2 57 k).toNat else 0) (nC W) = lsm (fun _ => 0) (nC W) := lsm_cg (fun k hk => by rw [y4 k hk, if_neg (by decide)])
      have z0 : ∀ n, lsm (fun _ => 0) n = 0 := by
        intro n
        induction n with
        | zero => rfl
        | succ n ih => rw [lsm_s, ih]; rfl
      rw [e0, z0, y2, b7]; rfl
    have htk := EU.1.1.1.2.2.1.2.2.2
    have m45 : m4.1 5 = m3.1 5 := by rw [y2]
    have hFu : FRo N u0 uu := ⟨gro_tr F3.1 v4, fun q hq => sam_tr (F3.2 q hq) (v5 q (by omega))⟩
    rcases eloop hCTE NN NN _ _ _ uu m4 0 hEF (by have := NN_ge; omega) (by have := NN_ge; omega) with ⟨t', cc, nn, m', κ', mb', ec', nc', z1, z2, z3, z4, z5, z6, z7, z8, z9⟩ | ⟨e, t', cc, nn, K, P, m', z1, z2, z3, z4, z5, z6⟩
    · -- all was read
      rw [z1, z2, Option.bind_some]
      obtain ⟨fr', hsl⟩ := frE z5
      have hFt : FRo N u0 t' := FRo_tr hFu ⟨z6.1, fun q hq => z6.2 q (by omega)⟩
      have hR' := z3.1.1.1.1
      have h5e : m'.1 5 ≤ m.1 2 := by have := hR'.2.2.1.2.2; have e2 : m'.1 2 = m.1 2 := fr'.1 2 (by decide); omega
      have g2t : gro t2' t' ∧ ∀ q, q < N2 → sam t2' t' q := z3.2.1.1.1
      have lz : ∀ k, k = 4 ∨ k = 7 → LA t' (N + k) bE 0 ∧ LW G t' (N + k) bE := fun k hk => by
        obtain ⟨k1, k2, k3⟩ := hl1 k (by omega)
        have s := sam_tr (x3 (N + k) (by omega) (by omega) (by omega) (by omega) (by omega) (by omega) (by omega)) (g2t.2 (N + k) (by omega))
        have sb := hFt.2 bE (by omega)
        have hN' := hFt.1.1
        have hN'' := g2t.1.1
        exact ⟨⟨by rw [s.1]; exact k1, by rw [s.2.2.2.1]; exact k2, by rw [s.2.2.1]; exact k3, by rw [sb.1]; exact hbT, by omega, by rw [sb.2.1, hbL]; omega, by omega, by omega, fun i x hx => by rw [sb.2.2.2.2.2, hbB] at hx; cases hx⟩, ⟨by show G0 G ≤ N + k; omega, fun _ => hE, fun q => by rw [sb.2.1, hbL] at q; omega⟩⟩
      have tail := e_tail (G := G) (L := L) (u0 := u0) (t2 := t2') (t := t') (m := m) (m' := m') (r := N2) (w := w) (n := n) (N2 := N2) (N3 := zN uu) (kl := kl) (kb := kb) (ch := ch) (ml := ml) (mb := mb') (nc := nc') (bE := bE) (W := W) (κ := κ') (ec := ec') (el1 := el1) (el2 := el2) (el3 := el3) (oel := oel) (el5 := el5) h4 hn (by omega) w1 hWm hM ⟨F1, F2, Fc3, F4, F5⟩ ⟨hE, hbG, by rw [(hFt.2 bE (by omega)).2.1]; exact hbL⟩ (by rw [← hN]; exact x4) (by omega) (by omega) ⟨by omega, by omega⟩ (by rw [← hN]; exact z3) z4 hR'.1.1.2.2.1 (by rw [← hN]; exact hFt) (by rw [← hN]; exact lz 4 (by omega)) (by rw [← hN]; exact lz 7 (by omega)) fr' (fun v a b => hsl v a)
      rw [← hN] at tail
      rw [bdU_map, bdU_map]
      have e2 : m'.1 2 = m.1 2 := fr'.1 2 (by decide)
      refine aftU_mono (sim_mapU (sim_mapU (sim_mapU (sim_mapU (sim_mapU (sim_mapU tail (Nat.le_refl _) (Nat.le_refl _)) (Nat.le_refl _) (Nat.le_refl _)) (Nat.le_refl _) (Nat.le_refl _)) (Nat.le_refl _) (Nat.le_refl _)) (Nat.le_refl _) (Nat.le_refl _)) (Nat.le_refl _) (Nat.le_refl _)) (by omega) (by omega)
    · -- a fault was thrown
      rw [z1]
      obtain ⟨fr', hsl⟩ := frE z6
      obtain ⟨r1, ⟨r2, r2'⟩, r3, r4, r5, r6, r7, r8⟩ := z2
      have hRC : RC G L t' (ms m 10 (-1)) := FRo_RC h4 (by rw [← hN]; exact FRo_tr hFu ⟨r5.1, fun q hq => r5.2 q (by omega)⟩)
      rw [yend z3 (by omega)]
      have e2 : m4.1 2 = m.1 2 := fr4.1 2 (by decide)
      have hP : P ≤ m.1 2 := by
        have j4 : Jt (m.1 2) m4 := ⟨⟨e2, by omega, by omega⟩, ⟨by omega, by omega⟩, by omega, Or.inl EU.1.1.1.2.2.2.2.2⟩
        have k := J_endl62 (v := (w : Int)) NN m4 j4
        rcases z3 with z3 | z3
        · have := k _ z3
          have j5 : Jt (m.1 2) m' := this
          rcases j5.2.2.2 with y | y
          · omega
          · omega
        · have := k _ z3
          have j5 : Jt (m.1 2) m' := this
          rcases j5.2.2.2 with y | y
          · omega
          · omega
      rw [bdU_map, bdU_e]
      show sim (Option.map _ (Option.map _ (Option.map _ (Option.map _ (Option.map _ (Option.map _ ((ztg t' 9 (some e)).bind _))))))) _ _
      rw [ztg_e r1, Option.bind_some, eb78]
      have hend := end_bad (w := m'.1 11 + 1) (C := cc) (S := nn) (cc := cc) (nn := nn) hRC r1 r2 r3 (by omega) z4 z5 (fr10 fr') (fun v a _ => hsl v a) (Nat.le_refl _) (Nat.le_refl _)
      exact aftU_mono (sim_mapU (sim_mapU (sim_mapU (sim_mapU (sim_mapU hend (Nat.le_refl _) (Nat.le_refl _)) (Nat.le_refl _) (Nat.le_refl _)) (Nat.le_refl _) (Nat.le_refl _)) (Nat.le_refl _) (Nat.le_refl _)) (Nat.le_refl _) (Nat.le_refl _)) (by omega) (by omega)
  · -- the first token is bad
    rw [p1, bdU_e]
    obtain ⟨fu, hfu⟩ : ∃ fu, NN = fu + 2 := ⟨NN - 2, by have := NN_ge; omega⟩
    obtain ⟨m', z1, z2, z3, z4⟩ := l62_end (v := (w : Int)) (g := fu) (m := m4) (q := m4) (K := 1) (P := m3.1 5) (by omega) ⟨Or.inr ⟨rfl, by rw [y2]; exact b10, by rw [y2]; exact p7, by rw [y2]⟩, MIe_rf⟩
    rw [← hfu] at z1
    obtain ⟨fr', hsl⟩ := frE z4
    rw [yend (Or.inr z1) (by omega)]
    have hRC : RC G L t3 (ms m 10 (-1)) := FRo_RC h4 (by rw [← hN]; exact ⟨gro_tr g2 p6.1, fun q hq => sam_tr (s2 q hq) (p6.2 q (by omega))⟩)
    show sim (Option.map _ (Option.map _ (Option.map _ (Option.map _ (Option.map _ ((ztg t3 9 (some e)).bind _)))))) _ _
    rw [ztg_e p2, Option.bind_some, eb78]
    have hend := end_bad (w := m'.1 11 + 1) (C := 1) (S := 8) (cc := 1) (nn := 8) hRC p2 p3 p4 (by omega) z2 z3 (fr10 fr') (fun v a _ => hsl v a) (Nat.le_refl _) (Nat.le_refl _)
    exact aftU_mono (sim_mapU (sim_mapU (sim_mapU (sim_mapU hend (Nat.le_refl _) (Nat.le_refl _)) (Nat.le_refl _) (Nat.le_refl _)) (Nat.le_refl _) (Nat.le_refl _)) (Nat.le_refl _) (Nat.le_refl _)) (by omega) (by omega)

/-! THE CALL event -/
theorem m_event_l {m : Mu} {e : Nat} (he : m.1 71 = e) (h32 : e ≤ 32) : ∃ m', m5_event_l44 NN 0 m = some m' ∧ m'.1 = m.1 ∧ (∀ k, k ≠ 75 → m'.2 k = m.2 k) ∧ ∀ i, m'.2 75 i = if 8 * e ≤ i ∧ i < 8 * e + 8 then 0 else m.2 75 i := by
  have key := loop_ind (fun q (s : Nat × Mu) => m5_event_l44 q s.1 s.2) (fun s => 8 - s.1) (fun s => s.1 ≤ 8 ∧ s.2.1 = m.1 ∧ (∀ k, k ≠ 75 → s.2.2 k = m.2 k) ∧ ∀ i, s.2.2 75 i = if 8 * e ≤ i ∧ i < 8 * e + s.1 then 0 else m.2 75 i) (fun _ m' => m'.1 = m.1 ∧ (∀ k, k ≠ 75 → m'.2 k = m.2 k) ∧ ∀ i, m'.2 75 i = if 8 * e ≤ i ∧ i < 8 * e + 8 then 0 else m.2 75 i) (by
    rintro q ⟨i, s⟩ ⟨h1, h2, h3, h4⟩ ih
    simp only at h1 h2 h3 h4
    show ok (m5_event_l44 (q + 1) i s) _
    unfold m5_event_l44
    rw [w32_n (by omega)]
    refine ok_ite (fun hc => ok_some ?_) (fun hc => ?_)
    · have : i = 8 := by omega
      subst this
      exact ⟨h2, h3, h4⟩
    · refine ok_mast (8 * e + i) (by rw [h2, he]; omega) (by omega) (by omega) ?_
      refine ih (i + 1, _) ⟨by show i + 1 ≤ 8; omega, h2, fun k hk => by show (ma s 75 _ _).2 k = _; rw [ma_o hk]; exact h3 k hk, fun j => ?_⟩ (by show 8 - (i + 1) < 8 - i; omega)
      show (ma s 75 (8 * e + i) 0).2 75 j = if 8 * e ≤ j ∧ j < 8 * e + (i + 1) then 0 else m.2 75 j
      rw [ma_s, h4]
      by_cases hj : j = 8 * e + i
      · rw [if_pos hj, if_pos (by omega)]
      · rw [if_neg hj]
        by_cases hj2 : 8 * e ≤ j ∧ j < 8 * e + i
        · rw [if_pos hj2, if_pos (by omega)]
        · rw [if_neg hj2, if_neg (by omega)]) NN (0, m) ⟨Nat.zero_le _, rfl, fun _ _ => rfl, fun i => by show m.2 75 i = if 8 * e ≤ i ∧ i < 8 * e + 0 then 0 else m.2 75 i; rw [if_neg (by omega)]⟩ (NN_gt (by show 8 - 0 < 100000; omega))
  obtain ⟨m', e1, e2⟩ := key
  exact ⟨m', e1, e2⟩
/-- the Event under way: i of its Knowns are made -/
def evI (G : CG) (u : Sg) (wa e : Nat) (i : Nat) (s : Sg) (b : Nat) (ka nw : Nat → Nat) : Prop :=
  zN u + 2 ≤ zN s ∧ gro u s ∧ (∀ a, a < zN u → sam u s a) ∧ zT s (zN u) = 19 ∧ zR s (zN u) 720 = some wa ∧ zR s (zN u) 721 = some (zN u + 1) ∧ LA s (zN u + 1) b i ∧ LW G s (zN u + 1) b ∧ (b < G0 G ∨ zN u + 2 ≤ b) ∧ nw (zN u) = 1 ∧ nw (zN u + 1) = 1 ∧ (zN u ≤ b → nw b = 1) ∧ (∀ a, nw a ≠ 0) ∧
  ∀ j, j < i → zB s b j = some (ka j) ∧ zN u + 2 ≤ ka j ∧ ka j + 3 ≤ zN s ∧ zT s (ka j) = 20 ∧ zI s (ka j) 762 = 0 ∧ (∀ t, t < 2 → zR s (ka j) (760 + t) = some (ka j + 1 + t) ∧ zT s (ka j + 1 + t) = 101 ∧ zL s (ka j + 1 + t) = 6) ∧ ∀ t, t < 3 → nw (ka j + t) = 1000 + 64 * e + 8 * j + t
theorem evI_step {G : CG} {u s s2 : Sg} {wa e i b b' : Nat} {ka nw : Nat → Nat} (h : evI G u wa e i s b ka nw) (hA : AD G (knoU s) s2 (zN u + 1) b b' i (some (zN s))) : ∃ ka' nw', evI G u wa e (i + 1) s2 b' ka' nw' := by
  obtain ⟨h1, h2, h3, h4, h5, h6, h7, h8, h9, h10, h11, h12, h13, h14⟩ := h
  obtain ⟨k1, k2, k3, k4, k5, k6⟩ := knoU_ok (s := s)
  obtain ⟨d1, d2, d3, d4, d5, d6, d7, d8⟩ := hA
  have sm : ∀ a, a < zN (knoU s) → zT (knoU s) a ≠ 105 → a ≠ zN u + 1 → sam (knoU s) s2 a := by
    intro a ha ht hne
    refine d8 a hne (fun z => ht ?_)
    have := d1.2.2.2.1
    rw [← z, (d6.2 a ha).1] at this
    exact this
  have hb : b < zN s := h7.2.2.2.2.2.2.2.1
  have s2N := d6.1
  refine ⟨fun j => if j = i then zN s else ka j, fun a => if zN s ≤ a ∧ a < zN s + 3 then 1000 + 64 * e + 8 * i + (a - zN s) else if zN s + 3 ≤ a then 1 else nw a, by omega, gro_tr h2 (gro_tr k2 d6), fun a ha => ?_, ?_, ?_, ?_, d1, d2, ?_, ?_, ?_, fun hb' => ?_, fun a => ?_, fun j hj => ?_⟩
  · exact sam_tr (h3 a ha) (sam_tr (k3 a (by omega)) (d8 a (by omega) (fun z => by
      rcases d5 with q | q
      · rw [q] at z
        have hz := d1.2.2.2.2.1
        have : 0 < zL (knoU s) b := by
          rw [q, (d6.2 b (by omega)).2] at hz
          omega
        rcases h9 with q9 | q9
        · have h00 := d2.2.2
          rw [q, (d6.2 b (by omega)).2] at h00
          have := h00 this
          have : G.2.2.2.1 = G0 G := rfl
          omega
        · omega
      · omega)))
  · rw [(sm (zN u) (by omega) (by rw [(k3 _ (by omega)).1, h4]; decide) (by omega)).1, (k3 _ (by omega)).1]; exact h4
  · rw [(sm (zN u) (by omega) (by rw [(k3 _ (by omega)).1, h4]; decide) (by omega)).2.2.2.1, (k3 _ (by omega)).2.2.2.1]; exact h5
  · rw [(sm (zN u) (by omega) (by rw [(k3 _ (by omega)).1, h4]; decide) (by omega)).2.2.2.1, (k3 _ (by omega)).2.2.2.1]; exact h6
  · rcases d5 with q | q
    · rw [q]; exact h9
    · rw [q, k1]; right; omega
  · show (if zN s ≤ zN u ∧ zN u < zN s + 3 then _ else if zN s + 3 ≤ zN u then 1 else nw (zN u)) = 1
    rw [if_neg (by omega), if_neg (by omega)]; exact h10
  · show (if zN s ≤ zN u + 1 ∧ zN u + 1 < zN s + 3 then _ else if zN s + 3 ≤ zN u + 1 then 1 else nw (zN u + 1)) = 1
    rw [if_neg (by omega), if_neg (by omega)]; exact h11
  · show (if zN s ≤ b' ∧ b' < zN s + 3 then _ else if zN s + 3 ≤ b' then 1 else nw b') = 1
    rcases d5 with q | q
    · rw [q] at hb' ⊢
      rw [if_neg (by omega), if_neg (by omega)]; exact h12 hb'
    · rw [q, k1, if_neg (by omega), if_pos (by omega)]
  · show (if zN s ≤ a ∧ a < zN s + 3 then _ else if zN s + 3 ≤ a then 1 else nw a) ≠ 0
    split
    · omega
    · split
      · decide
      · exact h13 a
  · by_cases hji : j = i
    · subst hji
      simp only [if_true]
      have q0 := sm (zN s) (by omega) (by rw [k4]; decide) (by omega)
      refine ⟨d4, by omega, by omega, by rw [q0.1]; exact k4, by rw [q0.2.2.1]; exact k5, fun t ht => ?_, fun t ht => ?_⟩
      · obtain ⟨z1, z2, z3⟩ := k6 t ht
        have qt := sm (zN s + 1 + t) (by omega) (by rw [z2]; decide) (by omega)
        exact ⟨by rw [q0.2.2.2.1]; exact z1, by rw [qt.1]; exact z2, by rw [qt.2.1]; exact z3⟩
      · rw [if_pos (by omega)]; omega
    · simp only [hji, if_false]
      obtain ⟨g1, g2, g3, g4, g5, g6, g7⟩ := h14 j (by omega)
      have q0 := sm (ka j) (by omega) (by rw [(k3 _ (by omega)).1, g4]; decide) (by omega)
      have p0 := k3 (ka j) (by omega)
      refine ⟨?_, by omega, by omega, by rw [q0.1, p0.1]; exact g4, by rw [q0.2.2.1, p0.2.2.1]; exact g5, fun t ht => ?_, fun t ht => ?_⟩
      · rw [d3 j (by omega), (k3 b hb).2.2.2.2.2]; exact g1
      · obtain ⟨z1, z2, z3⟩ := g6 t ht
        have pt := k3 (ka j + 1 + t) (by omega)
        have qt := sm (ka j + 1 + t) (by omega) (by rw [pt.1, z2]; decide) (by omega)
        exact ⟨by rw [q0.2.2.2.1, p0.2.2.2.1]; exact z1, by rw [qt.1, pt.1]; exact z2, by rw [qt.2.1, pt.2.1]; exact z3⟩
      · rw [if_neg (by omega), if_neg (by omega)]; exact g7 t ht
/-- the loop that makes the Knowns -/
theorem ev_loop {G : CG} {u : Sg} {wa e F l9 : Nat} {el9 : Nat → Nat} (hG : G0 G ≤ zN u) (hF : F ≤ 8) (hwa : wa < zN u) (hw : zT u wa = 7) (h240 : zR u wa 240 = some l9) (hl9 : l9 < zN u) (hsz : ∀ s, (∀ a, a < zN u → sam u s a) → gro u s → zT s l9 = 6 ∧ fJ2_size G (some l9) s = some (F : Int)) {s : Sg} {b : Nat} {ka nw : Nat → Nat} (h : evI G u wa e 0 s b ka nw) :
    ok (f18_init_l22 G (some (zN u)) (some wa) NN 0 s) (fun r => r.2.1 ≤ 4 * F ∧ r.2.2 ≤ 45 * F ∧ ∃ b ka nw, evI G u wa e F r.1 b ka nw) := by
  have key := loop_ind (fun q (s : Nat × Sg) => f18_init_l22 G (some (zN u)) (some wa) q s.1 s.2) (fun s => F - s.1) (fun s => s.1 ≤ F ∧ ∃ b ka nw, evI G u wa e s.1 s.2 b ka nw) (fun s r => r.2.1 ≤ 4 * (F - s.1) ∧ r.2.2 ≤ 45 * (F - s.1) ∧ ∃ b ka nw, evI G u wa e F r.1 b ka nw) (by
    rintro q ⟨i, s⟩ ⟨hi, b, ka, nw, hI⟩ ih
    simp only at hi hI
    show ok (f18_init_l22 G (some (zN u)) (some wa) (q + 1) i s) _
    unfold f18_init_l22
    have hI0 := hI
    obtain ⟨h1, h2, h3, h4, h5, h6, h7, h8, h9, h10, h11, h12, h13, h14⟩ := hI
    have sw := h3 wa hwa
    obtain ⟨t1, t2⟩ := hsz s h3 h2
    refine ok_eq (gfR_v (by rw [sw.1]; exact hw) (by rw [sw.2.2.2.1]; exact h240)) (ok_eq (ztg_e t1) (ok_eq t2 ?_))
    rw [w32_n (by omega), w32_n (by omega)]
    refine ok_ite (fun hc => ok_some ?_) (fun hc => ?_)
    · have : i = F := by omega
      subst this
      exact ⟨Nat.zero_le _, Nat.zero_le _, b, ka, nw, hI0⟩
    · refine ok_eq (gfR_v h4 h6) ?_
      obtain ⟨k1, k2, k3, k4, k5, k6⟩ := knoU_ok (s := s)
      have hl : LA (knoU s) (zN u + 1) b i := LA_sam h7 (k3 _ (by omega)) (k3 _ h7.2.2.2.2.2.2.2.1) k2.1 (fun x hx => (k2.2 x hx).1)
      have hw' : LW G (knoU s) (zN u + 1) b := ⟨h8.1, by rw [(k2.2 _ h7.2.2.2.2.2.2.2.1).2]; exact h8.2.1, by rw [(k2.2 _ h7.2.2.2.2.2.2.2.1).2]; exact h8.2.2⟩
      obtain ⟨b', s2, ⟨⟨x1, x2, x3⟩, e1, e2, e3, e4⟩, hAD⟩ := J_add (v := some (zN s)) hl hw' (by show G0 G ≤ zN (knoU s); omega) (by omega) shr32_1 (fun x hx => by cases hx; exact ⟨by rw [k4]; decide, by omega⟩)
      simp only at e2 e3 e4
      subst e2
      obtain ⟨ka', nw', hI'⟩ := evI_step hI0 hAD
      obtain ⟨⟨y1, y2, y3⟩, f1, f2, f3, f4⟩ := knoU_f (G := G) (s := s) (by omega)
      simp only at f2 f3 f4
      subst f2
      obtain ⟨⟨z1, z2, z3⟩, g1, g2, g3, g4⟩ := ih (i + 1, s2) ⟨by show i + 1 ≤ F; omega, b', ka', nw', hI'⟩ (by show F - (i + 1) < F - i; omega)
      refine ⟨(z1, z2 + x2 + y2 + 1, z3 + x3 + y3 + 3), ?_, ?_, ?_, g4⟩
      · show bdU (zNew s 20 3) _ = _
        unfold zNew
        rw [bdU_e]
        simp only
        rw [f1, bdU_e]
        try simp only
        rw [ztg_e hl.1, Option.bind_some, e1, bdU_e]
        simp only
        have g1' : f18_init_l22 G (some (zN u)) (some wa) q ((i : Int) + 1) s2 = some (z1, z2, z3) := g1
        rw [g1']
        rfl
      · simp only at g2 ⊢; omega
      · simp only at g3 ⊢; omega) NN (0, s) ⟨Nat.zero_le _, b, ka, nw, h⟩ (NN_gt (by show F - 0 < 100000; omega))
  exact key
theorem o_event {G : CG} {L : Ly} {u : Sg} {m : Mu} (h : RC G L u m) (v : Int) (hv : w32 v = v) : sim (f0_event G (some (L.1 3)) v u) (m5_event v m) (aftU G L 40 600) := by
  have h0 := h
  have z0 : ∀ {v : Int}, aftU G L 40 600 ((v, u), 0, 0) (v, m) := fun {v} => ⟨rfl, Nat.zero_le _, Nat.zero_le _, L, rfl, h0⟩
  unfold f0_event m5_event
  refine sim_L (ztg_e (rT3 h.1)) (sim_L (c_isW h hv) (sim_R (m_isW h hv) (sim_test (fun _ => sim_some z0) (fun h1 => ?_))))
  obtain ⟨hR, hS, hA, hJ, hW, hE, hP, hK⟩ := h
  have p0 := hE.1
  have p32 := hE.2.1
  have w12 := hW.2.1
  refine sim_L (gfR_v (rT3 hR) (rR3_6 hR)) (sim_L (ztg_e hE.2.2.1.1.1) (sim_L (sz_int hE.1 hE.2.2.1) (sim_ite Iff.rfl (fun _ => sim_some z0) (fun hc => ?_))))
  rw [w32_id (by omega) (by omega)] at hc
  obtain ⟨n, hn⟩ : ∃ n : Nat, m.1 71 = n := ⟨(m.1 71).toNat, by omega⟩
  obtain ⟨w, rfl⟩ : ∃ w : Nat, v = w := ⟨v.toNat, by omega⟩
  have hML : ML G u L 106 152 n (fun i => L.1 (401 + i)) := by
    have := hE.2.2.1
    rw [hn] at this
    exact this
  obtain ⟨hM, hWA⟩ := hW.2.2.2 w (by omega) (by omega)
  have hF8 : nF (slc m w) ≤ 8 := by have := hM.1.2.1; unfold nF; omega
  obtain ⟨⟨wc, wt⟩, ⟨l9, el9, w240, wl, -⟩, -⟩ := hWA
  have hwN : L.1 (300 + w) < zN u := hR.2.2.1 _ (by rw [wc]; decide)
  have hl9 : l9 < zN u := by obtain ⟨b9, q, -⟩ := wl; exact q.2.2.2.2.2.2.1
  have hG := hR.2.2.2.2.1
  have r3N : L.1 3 < zN u := hR.2.2.1 _ (by rw [rC3 hR]; decide)
  refine sim_L (gfR_v (rT3 hR) (rR3_6 hR)) ?_
  -- the Event's first cells
  obtain ⟨b0, g6, b0G, b0t, b0l, b0e⟩ := hR.2.2.2.2.2.1.2.1
  have sN1 : ∀ a, a < zN u → sam u (znew u 19 0) a := fun a ha => sam_znew sam_rf (by omega)
  generalize hs5 : zsR (zsR (zsR (zsI (znew (znew u 19 0) 6 0) (zN u + 1) 200 0) (zN u + 1) 201 (some b0)) (zN u) 721 (some (zN u + 1))) (zN u) 720 (some (L.1 (300 + w))) = s5
  have hev : evI G u (L.1 (300 + w)) (n + 1) 0 s5 b0 (fun _ => 0) (fun _ => 1) := by
    have hs : ∀ a, a < zN u → sam u s5 a := by
      intro a ha
      rw [← hs5]
      refine sam_zsR (sam_zsR (sam_zsR (sam_zsI (sam_znew (sam_znew sam_rf ?_) ?_) ?_) ?_) ?_) ?_ <;> (try simp only [znew_N]) <;> omega
    have hN : zN s5 = zN u + 2 := by rw [← hs5]; rfl
    have hb : b0 < zN u := by omega
    refine ⟨by omega, ⟨by omega, fun x hx => ⟨(hs x hx).1, (hs x hx).2.1⟩⟩, hs, ?_, ?_, ?_, ⟨?_, ?_, ?_, by rw [(hs b0 hb).1]; exact b0t, Nat.zero_le _, by rw [(hs b0 hb).2.1, b0l]; decide, by omega, by omega, fun i x hx => ?_⟩, ⟨by show G0 G ≤ _; omega, fun _ => g6, fun q => ?_⟩, Or.inl b0G, rfl, rfl, fun _ => rfl, fun _ => Nat.one_ne_zero, fun j hj => by omega⟩
    · rw [← hs5]; simp [zsR_T, zsI_T, znew_T, znew_N]
    · rw [← hs5]; simp [zsR_R, zsI_R]
    · rw [← hs5]; simp [zsR_R, zsI_R]
    · rw [← hs5]; simp [zsR_T, zsI_T, znew_T, znew_N]
    · rw [← hs5]; simp [zsR_R, zsI_R]
    · rw [← hs5]; simp [zsR_I, zsI_I, znew_I, znew_N]
    · rw [(hs b0 hb).2.2.2.2.2, b0e] at hx; cases hx
    · rw [(hs b0 hb).2.1, b0l] at q; omega
  have hinit : fJ2_init G (some (zN u + 1)) (znew (znew u 19 0) 6 0) = some (zsR (zsI (znew (znew u 19 0) 6 0) (zN u + 1) 200 0) (zN u + 1) 201 (some b0)) := J_init (by rw [znew_T, if_pos (by rw [znew_N])]) (by show G0 G ≤ _; omega) g6
  have hlp := ev_loop (F := nF (slc m w)) (el9 := el9) (e := n + 1) hG hF8 hwN wt w240 hl9 (fun s q1 q2 => by
    obtain ⟨b9, y1, y2, y3, y4⟩ := wl
    have hL9 : LA s l9 b9 (nF (slc m w)) := LA_sam y1 (q1 _ hl9) (q1 _ y1.2.2.2.2.2.2.2.1) q2.1 (fun x hx => (q2.2 x hx).1)
    exact ⟨hL9.1, J_size hL9⟩) hev
  obtain ⟨⟨u6, c6, k6⟩, el, hc6, hk6, b, ka, nw, hI⟩ := hlp
  simp only at hc6 hk6 hI
  obtain ⟨i1, i2, i3, i4, i5, i6, i7, i8, i9, i10, i11, i12, i13, i14⟩ := hI
  have hl6 : LA u6 (L.1 106) (L.1 152) n := LA_sam hML.1 (i3 _ hML.1.2.2.2.2.2.2.1) (i3 _ hML.1.2.2.2.2.2.2.2.1) i2.1 (fun x hx => (i2.2 x hx).1)
  have hw6 : LW G u6 (L.1 106) (L.1 152) := ⟨hML.2.1.1, by rw [(i2.2 _ hML.1.2.2.2.2.2.2.2.1).2]; exact hML.2.1.2.1, by rw [(i2.2 _ hML.1.2.2.2.2.2.2.2.1).2]; exact hML.2.1.2.2⟩
  obtain ⟨b', u7, hadd, hAD⟩ := J_add (v := some (zN u)) hl6 hw6 (by show G0 G ≤ zN u6; omega) (by omega) shr32_1 (fun x hx => by cases hx; exact ⟨by rw [i4]; decide, by omega⟩)
  have tg7 : ∀ a, a < zN u6 → zT u7 a = zT u6 a ∧ zL u7 a = zL u6 a := fun a ha => hAD.2.2.2.2.2.1.2 a ha
  have s3 : sam u u7 (L.1 3) := sam_tr (i3 _ r3N) (hAD.2.2.2.2.2.2.2 _ (fun z => by have := hML.2.2.1; rw [← z, rC3 hR] at this; cases this) (fun z => by
    have := hAD.1.2.2.2.1
    rw [← z, (tg7 _ (by omega)).1, (i2.2 _ r3N).1, rT3 hR] at this
    cases this))
  have hthe : f0_the G (some (L.1 3)) (w : Int) (znew u 19 0) = some (some (L.1 (300 + w))) := by
    have hMW := hW.2.2.1
    have s3' := sN1 _ r3N
    have hl5 : LA (znew u 19 0) (L.1 105) (L.1 151) (m.1 11).toNat := LA_sam hMW.1 (sN1 _ hMW.1.2.2.2.2.2.2.1) (sN1 _ hMW.1.2.2.2.2.2.2.2.1) (by rw [znew_N]; omega) (fun x hx => (sN1 x hx).1)
    unfold f0_the
    rw [gfR_v (r := some (L.1 105)) (by rw [s3'.1]; exact rT3 hR) (by rw [s3'.2.2.2.1]; exact rR3_5 hR), Option.bind_some, ztg_e hl5.1, Option.bind_some, J_get hl5 (w - 1) (by omega) (by omega), Option.bind_some, (sN1 _ hMW.1.2.2.2.2.2.2.2.1).2.2.2.2.2, hMW.2.2.2.2 (w - 1) (by omega)]
    show ((zcast (znew u 19 0) [7] (some (L.1 (301 + (w - 1))))).bind fun _ => some (some (L.1 (301 + (w - 1))))) = _
    rw [show 301 + (w - 1) = 300 + w by omega, zcast_1 (by rw [(sN1 _ hwN).1]; exact wt)]
    rfl
  have hcls : okU (bdU (zNew u 19 2) fun q7 => (ztg q7.2 1 (some (L.1 3))).bind fun b8 => (f0_the G (some b8) (w : Int) q7.2).bind fun x9 => bdU (f18_init G (some q7.1) x9 q7.2) fun q10 => (ztg q10 6 (some (L.1 106))).bind fun b11 => bdU (fJ2_add G (some b11) (some q7.1) q10) fun q12 => (gfR q12.2 1 6 (some (L.1 3))).bind fun x13 => (ztg q12.2 6 x13).bind fun b14 => (fJ2_size G (some b14) q12.2).bind fun x15 => some ((x15, q12.2), 0, 0)) 40 600 (fun r => r = ((n : Int) + 1, u7)) := by
    refine okU_new (by omega) (by omega) ?_
    refine okU_eq (ztg_e (by show zT (znew u 19 0) (L.1 3) = 1; rw [(sN1 _ r3N).1]; exact rT3 hR)) (okU_eq hthe ?_)
    refine okU_bdU (C1 := 33) (S1 := 363) (Q := fun r => r = u6) ?_ (by omega) (by omega) (fun q hq => ?_)
    · unfold f18_init
      refine okU_eq (a := zN u) rfl ?_
      refine okU_new (by omega) (by omega) ?_
      refine okU_eq hinit ?_
      refine okU_eq (pfR_e (by show (if zN u = zN u + 1 then 6 else if zN u = zN u then 19 else zT u (zN u)) = 19; rw [if_neg (by omega), if_pos rfl]) hG) (okU_eq (pfR_e (by show (if zN u = zN u + 1 then 6 else if zN u = zN u then 19 else zT u (zN u)) = 19; rw [if_neg (by omega), if_pos rfl]) hG) ?_)
      refine okU_bdU (C1 := 32) (S1 := 360) (Q := fun r => r = u6) ⟨(u6, c6, k6), ?_, rfl, by show c6 ≤ 32; omega, by show k6 ≤ 360; omega⟩ (by omega) (by omega) (fun q hq => ?_)
      · rw [← hs5] at el; exact el
      · subst hq; exact okU_some rfl (by omega) (by omega)
    subst hq
    refine okU_eq (ztg_e hl6.1) ?_
    refine okU_bdU hadd (by omega) (by omega) (fun q hq => ?_)
    subst hq
    refine okU_eq (gfR_v (by show zT u7 (L.1 3) = 1; rw [s3.1]; exact rT3 hR) (by show zR u7 (L.1 3) 6 = _; rw [s3.2.2.2.1]; exact rR3_6 hR)) (okU_eq (ztg_e hAD.1.1) (okU_eq (J_size hAD.1) ?_))
    exact okU_some (by simp) (by omega) (by omega)
  -- the twin
  have e71 : (ma (ms m 71 (m.1 71 + 1)) 72 (n + 1) w).1 71 = ((n + 1 : Nat) : Int) := by rw [ma_1, ms_1, if_pos rfl]; omega
  obtain ⟨m', em, mm1, mm2, mm3⟩ := m_event_l e71 (by omega)
  refine sim_okU hcls (b := ((n : Int) + 1, m')) ?_ ?_
  · have e1 : (ms m 71 (m.1 71 + 1)).1 71 = ((n + 1 : Nat) : Int) := by rw [ms_1, if_pos rfl]; omega
    refine ok_is (ok_st (ok_mast (n + 1) e1 (by omega) (by omega) (ok_eq em (ok_some ?_))))
    show (m'.1 71, m') = _
    rw [mm1, e71]
    rfl
  rintro a c s rfl hc1 hs1
  have m1 : ∀ k, k ≠ 71 → m'.1 k = m.1 k := fun k hk => by rw [mm1, ma_1, ms_1, if_neg hk]
  have m71 : m'.1 71 = (n : Int) + 1 := by rw [mm1, e71]; omega
  have m2 : ∀ k, k ≠ 72 → k ≠ 75 → m'.2 k = m.2 k := fun k a1 a2 => by rw [mm2 k a2, ma_o a1, ms_2]
  have m72 : ∀ i, m'.2 72 i = if i = n + 1 then (w : Int) else m.2 72 i := fun i => by rw [mm2 72 (by decide), ma_s, ms_2]
  have m75 : ∀ i, m'.2 75 i = if 8 * (n + 1) ≤ i ∧ i < 8 * (n + 1) + 8 then 0 else m.2 75 i := fun i => by rw [mm3, ma_o (by decide), ms_2]
  clear em mm1 mm2 mm3 e71
  have hz : ∀ w, slc m' w = slc m w := fun w => slc_of (fun j q1 q2 => m2 j (by omega) (by omega))
  refine ⟨rfl, hc1, hs1, mkL (fun r => if r = 401 + n then zN u else if 1064 + 64 * n ≤ r ∧ r < 1128 + 64 * n then ka ((r - (1064 + 64 * n)) / 8) + (r - (1064 + 64 * n)) % 8 else if r = 152 then b' else L.1 r) L (zN u) (zN u6) b' 152 nw, ?_, ?_⟩
  · show (if 3 = 401 + n then _ else if 1064 + 64 * n ≤ 3 ∧ 3 < 1128 + 64 * n then _ else if 3 = 152 then b' else L.1 3) = L.1 3
    rw [if_neg (by omega), if_neg (by omega), if_neg (by decide)]
  · have hf : ∀ q, OR m q → q ≠ 152 → (fun r => if r = 401 + n then zN u else if 1064 + 64 * n ≤ r ∧ r < 1128 + 64 * n then ka ((r - (1064 + 64 * n)) / 8) + (r - (1064 + 64 * n)) % 8 else if r = 152 then b' else L.1 r) q = L.1 q := by
      intro q hq hne
      have k0 := hP.2.1
      have e0 := hK.2.1
      show (if q = 401 + n then _ else if 1064 + 64 * n ≤ q ∧ q < 1128 + 64 * n then _ else if q = 152 then b' else L.1 q) = L.1 q
      rw [if_neg (by unfold OR at hq; omega), if_neg (by unfold OR at hq; omega), if_neg hne]
    obtain ⟨r1, r2, r3, r4, r5, r6, r7, r8, r9, r10, r11, r12⟩ := grow_rest (f := fun r => if r = 401 + n then zN u else if 1064 + 64 * n ≤ r ∧ r < 1128 + 64 * n then ka ((r - (1064 + 64 * n)) / 8) + (r - (1064 + 64 * n)) % 8 else if r = 152 then b' else L.1 r) (nw := nw) h0 hML (by simp) i2 i3 hAD hf
    have rML := grow_ML (f := fun r => if r = 401 + n then zN u else if 1064 + 64 * n ≤ r ∧ r < 1128 + 64 * n then ka ((r - (1064 + 64 * n)) / 8) + (r - (1064 + 64 * n)) % 8 else if r = 152 then b' else L.1 r) (nw := nw) (el' := fun i => (fun r => if r = 401 + n then zN u else if 1064 + 64 * n ≤ r ∧ r < 1128 + 64 * n then ka ((r - (1064 + 64 * n)) / 8) + (r - (1064 + 64 * n)) % 8 else if r = 152 then b' else L.1 r) (401 + i)) hR hML (by decide) i2 i3 hAD (hf 106 (by unfold OR; omega) (by decide)) (by show (if _ then _ else if _ then _ else if 152 = 152 then b' else _) = b'; rw [if_neg (by omega), if_neg (by omega), if_pos rfl]) (fun i hi => by show (if _ then _ else if _ then _ else if _ then b' else _) = _; rw [if_neg (by omega), if_neg (by omega), if_neg (by omega)]) (by show (if _ then _ else _) = _; rw [if_pos rfl])
    obtain ⟨ge, gl, gb, gr, gs, gs6⟩ := grow_1 (f := fun r => if r = 401 + n then zN u else if 1064 + 64 * n ≤ r ∧ r < 1128 + 64 * n then ka ((r - (1064 + 64 * n)) / 8) + (r - (1064 + 64 * n)) % 8 else if r = 152 then b' else L.1 r) (nw := nw) hR hML (by decide) i2 i3 hAD
    generalize hLL : mkL (fun r => if r = 401 + n then zN u else if 1064 + 64 * n ≤ r ∧ r < 1128 + 64 * n then ka ((r - (1064 + 64 * n)) / 8) + (r - (1064 + 64 * n)) % 8 else if r = 152 then b' else L.1 r) L (zN u) (zN u6) b' 152 nw = L' at *
    have hL1 : ∀ r, L'.1 r = if r = 401 + n then zN u else if 1064 + 64 * n ≤ r ∧ r < 1128 + 64 * n then ka ((r - (1064 + 64 * n)) / 8) + (r - (1064 + 64 * n)) % 8 else if r = 152 then b' else L.1 r := fun r => by rw [← hLL]; rfl
    have hL2 : ∀ a, zN u ≤ a → a < zN u6 → L'.2 a = nw a := fun a h1 h2 => by
      rw [← hLL]
      show (if a < zN u then _ else if a < zN u6 then nw a else _) = _
      rw [if_neg (by omega), if_pos h2]
    have hL2o : ∀ a, a < zN u → L'.2 a = L.2 a := fun a ha => by
      rw [← hLL]
      show (if a < zN u then L.2 a else _) = _
      rw [if_pos ha]
    have m2' : ∀ (l : List Nat) j, j ∈ l → (72 ∉ l ∧ 75 ∉ l) → m'.2 j = m.2 j := fun l j hj ⟨q1, q2⟩ => m2 j (fun q => q1 (q ▸ hj)) (fun q => q2 (q ▸ hj))
    refine ⟨r1, RS_mm (fun k hk => m1 k (by rintro rfl; revert hk; decide)) r2, RA_mm (fun k hk => m1 k (by rintro rfl; revert hk; decide)) (fun k hk => m2' _ k hk (by decide)) r3, RJ_mm (fun k hk => m1 k (by rintro rfl; revert hk; decide)) (fun k hk => m2' _ k hk (by decide)) r4, ?_, ?_, ?_, ?_⟩
    · refine RW_mm (m := m) (m1 11 (by decide)) (fun w _ _ => hz w) ⟨hW.1, hW.2.1, ?_, fun w q1 q2 => ⟨(hW.2.2.2 w q1 q2).1, ?_⟩⟩
      · have := r5 (by decide); rw [← hLL] at this ⊢; exact this
      · have := r9 w q1 q2; rw [← hLL] at this ⊢; exact this
    · unfold RE
      rw [m71]
      refine ⟨by omega, by omega, ?_, fun e q1 q2 => ?_⟩
      · rw [show ((n : Int) + 1).toNat = n + 1 by omega]
        rw [← hLL] at rML ⊢
        exact rML
      · by_cases hen : e = n + 1
        · subst hen
          have a0 : L'.1 (400 + (n + 1)) = zN u := by rw [hL1, if_pos (by omega)]
          have hb6 : b < zN u6 := i7.2.2.2.2.2.2.2.1
          have sb : ∀ a, zN u ≤ a → a < zN u6 → zT u6 a ≠ 105 → sam u6 u7 a := by
            intro a hj hj2 ht
            refine hAD.2.2.2.2.2.2.2 _ (fun z => ?_) (fun z => ?_)
            · have := hML.1.2.2.2.2.2.2.1; omega
            · have := hAD.1.2.2.2.1
              rw [← z, (tg7 _ hj2).1] at this
              exact ht this
          have s0 := sb (zN u) (by omega) (by omega) (by rw [i4]; decide)
          have s1 := sb (zN u + 1) (by omega) (by omega) (by rw [i7.1]; decide)
          have bc : L'.2 b = 1 := by
            rcases i9 with q | q
            · rw [hL2o b (by omega)]; exact hR.2.2.2.1 b q
            · rw [hL2 b (by omega) hb6]; exact i12 (by omega)
          have sB : sam u6 u7 b := by
            refine hAD.2.2.2.2.2.2.2 _ (fun z => ?_) (fun z => ?_)
            · have := i7.2.2.2.1
              rw [z, (i2.2 _ hML.1.2.2.2.2.2.2.1).1, hML.1.1] at this
              cases this
            · rw [z] at bc
              rw [gb] at bc
              cases bc
          unfold EE
          rw [a0, m72, if_pos rfl, m1 11 (by decide), hz, show ((w : Int)).toNat = w by omega]
          refine ⟨by omega, by omega, by rw [hL2 _ (by omega) (by omega)]; exact i10, by rw [s0.1]; exact i4, ?_, zN u + 1, by rw [s0.2.2.2.1]; exact i6, ?_, fun f hf9 => ?_⟩
          · rw [s0.2.2.2.1, i5, hL1, if_neg (by omega), if_neg (by omega), if_neg (by omega)]
          · refine ⟨b, LA_sam i7 s1 sB hAD.2.2.2.2.2.1.1 (fun x hx => (tg7 x hx).1), by rw [hL2 _ (by omega) (by omega)]; exact i11, bc, fun i hi => ?_⟩
            rw [sB.2.2.2.2.2, (i14 i hi).1]
            show some (ka i) = some (L'.1 (1000 + 64 * (n + 1) + 8 * i))
            rw [hL1, if_neg (by omega), if_pos (by omega), show (1000 + 64 * (n + 1) + 8 * i - (1064 + 64 * n)) / 8 = i by omega, show (1000 + 64 * (n + 1) + 8 * i - (1064 + 64 * n)) % 8 = 0 by omega]
            rfl
          · obtain ⟨j1, j2, j3, j4, j5, j6, j7⟩ := i14 f hf9
            have sk := sb (ka f) (by omega) (by omega) (by rw [j4]; decide)
            rw [m75, if_pos (by omega)]
            refine ⟨KA_new (a := ka f) (by omega) (by rw [sk.1]; exact j4) (by rw [sk.2.2.1]; exact j5) (fun t ht => ?_) (fun t ht => ⟨?_, ?_⟩), fun k hk => by omega⟩
            · obtain ⟨z1, z2, z3⟩ := j6 t ht
              have st := sb (ka f + 1 + t) (by omega) (by omega) (by rw [z2]; decide)
              exact ⟨by rw [sk.2.2.2.1]; exact z1, by rw [st.1]; exact z2, by rw [st.2.1]; exact z3⟩
            · rw [hL1, if_neg (by omega), if_pos (by omega), show (1000 + 64 * (n + 1) + 8 * f + t - (1064 + 64 * n)) / 8 = f by omega, show (1000 + 64 * (n + 1) + 8 * f + t - (1064 + 64 * n)) % 8 = t by omega]
            · rw [hL2 _ (by omega) (by omega)]; exact j7 t ht
        · have hold := r10 e q1 (by omega)
          have hnF := ev_nF h0 e q1 (by omega)
          obtain ⟨c1, c2, c3, c4, c5, l', c6', c7, c8⟩ := hold
          unfold EE
          rw [m72, if_neg hen, m1 11 (by decide), hz]
          refine ⟨c1, c2, c3, c4, c5, l', c6', c7, fun f hf9 => ?_⟩
          rw [m75, if_neg (by omega), m2 73 (by decide) (by decide), m2 74 (by decide) (by decide)]
          exact c8 f hf9
    · refine RP_mm (m := m) (by rw [m1 11 (by decide)]; exact Int.le_refl _) (m1 81 (by decide)) (fun k hk => m2' _ k hk (by decide)) ⟨hP.1, hP.2.1, ?_, r11⟩
      have := r7 (by decide); rw [← hLL] at this ⊢; exact this
    · refine RK_mm (m := m) (m1 87 (by decide)) (by rw [m1 81 (by decide)]; exact Int.le_refl _) (by rw [m71]; omega) (fun k hk => m2' _ k hk (by decide)) ⟨hK.1, hK.2.1, ?_, r12, hK.2.2.2.2⟩
      have := r8 (by decide); rw [← hLL] at this ⊢; exact this

/-! THE CALLS wordingPart, factPart, clause -/
theorem c_the {G : CG} {L : Ly} {u : Sg} {m : Mu} (h : RC G L u m) {w : Nat} (h1 : 1 ≤ w) (h2 : (w : Int) ≤ m.1 11) : f0_the G (some (L.1 3)) (w : Int) u = some (some (L.1 (300 + w))) := by
  have hW := h.2.2.2.2.1
  have hA := (hW.2.2.2 w h1 h2).2
  unfold f0_the
  rw [gfR_v (rT3 h.1) (rR3_5 h.1), Option.bind_some, ztg_e hW.2.2.1.1.1, Option.bind_some, wo_get h h1 h2, Option.bind_some, zcast_1 hA.1.2]
  rfl
/-- a number of the twin's arrays that is a part of a wording -/
theorem m_sl {m : Mu} {w k j n : Nat} {i : Int} (hj : j < wid k) (hi : i = ((wid k * w + j : Nat) : Int)) (hn : wid k * w + j < n) (hn2 : n ≤ 100000) : mald m k n i = some (slc m w k j) := by
  rw [mald_e (wid k * w + j) hi hn hn2, slc_e _ hj rfl]
theorem wo_at {G : CG} {L : Ly} {u : Sg} {m : Mu} (h : RC G L u m) {v : Int} (h1 : 1 ≤ v ∧ v ≤ m.1 11) : ∃ w : Nat, v = w ∧ 1 ≤ w ∧ w ≤ 12 ∧ (w : Int) ≤ m.1 11 ∧ WM (slc m w) ∧ WA G L u (L.1 (300 + w)) (slc m w) := by
  have hW := h.2.2.2.2.1
  have := hW.2.1
  refine ⟨v.toNat, by omega, by omega, by omega, by omega, hW.2.2.2 _ (by omega) (by omega)⟩
theorem o_wordingPart {G : CG} {L : Ly} {u : Sg} {m : Mu} (h : RC G L u m) (v k : Int) (hv : w32 v = v) (hk : w32 k = k) : sim (f0_wordingPart G (some (L.1 3)) v k u) (m5_wordingPart v k m) same1 := by
  unfold f0_wordingPart m5_wordingPart
  refine sim_L (ztg_e (rT3 h.1)) (sim_L (c_isW h hv) (sim_R (m_isW h hv) (sim_test (fun _ => sim_some rfl) (fun h1 => ?_))))
  obtain ⟨w, rfl, w1, w12, w2, hM, hA⟩ := wo_at h h1
  refine sim_L (ztg_e (rT3 h.1)) (sim_L (c_the h w1 w2) ?_)
  rw [hk]
  obtain ⟨⟨a1, a2⟩, ⟨l1, e1, b1, b2, -⟩, -, -, ⟨l4, e4, b7, b8, -⟩, ⟨l5, e5, b9, b10, -⟩, ⟨s1, s2, d, s3, s4, s5⟩, ⟨n1, n2, n3⟩, -⟩ := hA
  obtain ⟨⟨m1, m2, m3, m4, m5, m6, m7, m8, m9, m10⟩, -⟩ := hM
  have tn : ∀ {x : Int}, 0 ≤ x → ((x.toNat : Nat) : Int) = x := fun hx => by omega
  refine sim_ite Iff.rfl (fun _ => ?_) (fun g0 => ?_)
  · exact sim_L (gfR_v a2 b1) (sim_L (ztg_e (lf_tag b2)) (sim_L (lf_size b2) (sim_R (m_sl (w := w) (j := 0) (by decide) (by show (w : Int) = ((1 * w + 0 : Nat) : Int); omega) (by show 1 * w + 0 < 14; omega) (by omega)) (sim_some (tn m1)))))
  refine sim_ite Iff.rfl (fun _ => ?_) (fun g1 => ?_)
  · exact sim_L (gfR_v a2 b7) (sim_L (ztg_e (lf_tag b8)) (sim_L (lf_size b8) (sim_R (m_sl (w := w) (j := 0) (by decide) (by show (w : Int) = ((1 * w + 0 : Nat) : Int); omega) (by show 1 * w + 0 < 14; omega) (by omega)) (sim_some (tn m5)))))
  refine sim_ite Iff.rfl (fun _ => ?_) (fun g2 => ?_)
  · exact sim_L (gfR_v a2 b9) (sim_L (ztg_e (lf_tag b10)) (sim_L (lf_size b10) (sim_R (m_sl (w := w) (j := 0) (by decide) (by show (w : Int) = ((1 * w + 0 : Nat) : Int); omega) (by show 1 * w + 0 < 14; omega) (by omega)) (sim_some (tn m7)))))
  refine sim_ite Iff.rfl (fun _ => ?_) (fun g3 => ?_)
  · exact sim_L (gfI_v a2 n2) (sim_R (m_sl (w := w) (j := 0) (by decide) (by show (w : Int) = ((1 * w + 0 : Nat) : Int); omega) (by show 1 * w + 0 < 14; omega) (by omega)) (sim_some rfl))
  refine sim_ite Iff.rfl (fun _ => ?_) (fun g4 => ?_)
  · exact sim_L (gfI_v a2 n1) (sim_R (m_sl (w := w) (j := 0) (by decide) (by show (w : Int) = ((1 * w + 0 : Nat) : Int); omega) (by show 1 * w + 0 < 14; omega) (by omega)) (sim_some rfl))
  by_cases g5 : k < 5
  · refine sim_posR g5 ?_
    exact sim_negL (by omega) (sim_negL (by omega) (sim_negL (by omega) (sim_negL (by omega) (sim_negL (by omega) (sim_some rfl)))))
  refine sim_negR g5 ?_
  by_cases g9 : 9 < k
  · refine sim_posR g9 ?_
    exact sim_negL (by omega) (sim_negL (by omega) (sim_negL (by omega) (sim_negL (by omega) (sim_negL (by omega) (sim_some rfl)))))
  refine sim_negR g9 ?_
  refine sim_R (m_sl (w := w) (k := 32) (j := (k - 5).toNat) (by show _ < 5; omega) (by show _ = ((5 * w + (k - 5).toNat : Nat) : Int); omega) (by show 5 * w + (k - 5).toNat < 70; omega) (by omega)) ?_
  refine sim_iteL (fun e => ?_) (fun g => ?_)
  · subst e; exact sim_L (gfI_v a2 s1) (sim_some rfl)
  refine sim_iteL (fun e => ?_) (fun g => ?_)
  · subst e; exact sim_L (gfI_v a2 s2) (sim_some rfl)
  have rd : ∀ j : Nat, j < 3 → k = 7 + j → sim ((gfR u 7 247 (some (L.1 (300 + w)))).bind fun x => (alI u 1 x (k - 7)).bind fun y => some y) (some (slc m w 32 (k - 5).toNat)) same1 := by
    intro j hj e
    refine sim_L (gfR_v a2 s3) (sim_L (alI_e j s4.2.1 (by omega) (by rw [s4.2.2]; exact hj) (by rw [s4.2.2]; omega)) (sim_some ?_))
    show zA u d j = _
    rw [s5 j hj, show (k - 5).toNat = 2 + j by omega]
  refine sim_iteL (fun e => ?_) (fun g => ?_)
  · exact rd 0 (by omega) (by omega)
  refine sim_iteL (fun e => ?_) (fun g => ?_)
  · exact rd 1 (by omega) (by omega)
  refine sim_iteL (fun e => ?_) (fun g => ?_)
  · exact rd 2 (by omega) (by omega)
  · omega
theorem o_factPart {G : CG} {L : Ly} {u : Sg} {m : Mu} (h : RC G L u m) (v f k : Int) (hv : w32 v = v) (hf : w32 f = f) (hk : w32 k = k) : sim (f0_factPart G (some (L.1 3)) v f k u) (m5_factPart v f k m) same1 := by
  unfold f0_factPart m5_factPart
  refine sim_L (ztg_e (rT3 h.1)) (sim_L (c_isW h hv) (sim_R (m_isW h hv) (sim_test (fun _ => sim_some rfl) (fun h1 => ?_))))
  obtain ⟨w, rfl, w1, w12, w2, hM, hA⟩ := wo_at h h1
  rw [hf, hk]
  refine sim_ite Iff.rfl (fun _ => sim_some rfl) (fun g0 => ?_)
  obtain ⟨⟨a1, a2⟩, ⟨l1, e1, b1, b2, b3⟩, -, -, -, -, -, -, ⟨l6, e6, b4, b5, b6⟩, -⟩ := hA
  have hM0 := hM
  obtain ⟨⟨m1, m2, -⟩, mf, -⟩ := hM
  refine sim_L (ztg_e (rT3 h.1)) (sim_L (c_the h w1 w2) (sim_L (gfR_v a2 b1) (sim_L (ztg_e (lf_tag b2)) (sim_L (lf_size b2) ?_))))
  refine sim_R (m_sl (w := w) (j := 0) (by decide) (by show (w : Int) = ((1 * w + 0 : Nat) : Int); omega) (by show 1 * w + 0 < 14; omega) (by omega)) ?_
  rw [show ((nF (slc m w) : Nat) : Int) = slc m w 12 0 by unfold nF; omega]
  refine sim_ite Iff.rfl (fun g1 => ?_) (fun _ => sim_some rfl)
  rw [w32_id (by omega) (by omega)] at g1
  obtain ⟨g, rfl⟩ : ∃ g : Nat, f = g := ⟨f.toNat, by omega⟩
  have hg : g < nF (slc m w) := by unfold nF; omega
  have hg8 : g < 8 := by omega
  obtain ⟨z1, z2, z3, z4, z5, z6, z7, -⟩ := b3 g hg
  obtain ⟨y1, y2, y3, y4, y5, -⟩ := mf g hg
  have e8 : (8 * (w : Int) + (g : Int)) = ((8 * w + g : Nat) : Int) := by omega
  refine sim_L (ztg_e (rT3 h.1)) (sim_L (c_the h w1 w2) (sim_L (gfR_v a2 b1) (sim_L (ztg_e (lf_tag b2)) (sim_L (lf_get b2 g rfl hg) (sim_L (zcast_1 z2) ?_)))))
  refine sim_ite Iff.rfl (fun _ => ?_) (fun g0 => ?_)
  · exact sim_L (gfI_v z2 z4) (sim_R (m_sl (w := w) (k := 14) (j := g) hg8 e8 (by show 8 * w + g < 112; omega) (by omega)) (sim_some rfl))
  refine sim_ite Iff.rfl (fun _ => ?_) (fun g0 => ?_)
  · refine sim_L (gfI_v z2 z5) (sim_R (m_sl (w := w) (k := 14) (j := g) hg8 e8 (by show 8 * w + g < 112; omega) (by omega)) ?_)
    rw [w32_id (x := slc m w 14 g) (by omega) (by omega)]
    refine sim_iteR (fun q => ?_) (fun q => ?_)
    · exact sim_R (m_sl (w := w) (k := 15) (j := g) hg8 e8 (by show 8 * w + g < 112; omega) (by omega)) (sim_some rfl)
    · exact sim_some (y5 q)
  refine sim_ite Iff.rfl (fun _ => ?_) (fun g0 => ?_)
  · exact sim_L (gfI_v z2 z6) (sim_R (m_sl (w := w) (k := 17) (j := g) hg8 e8 (by show 8 * w + g < 112; omega) (by omega)) (sim_some rfl))
  refine sim_ite Iff.rfl (fun _ => ?_) (fun g0 => ?_)
  · exact sim_L (gfI_v z2 z7) (sim_R (m_sl (w := w) (k := 18) (j := g) hg8 e8 (by show 8 * w + g < 112; omega) (by omega)) (sim_some rfl))
  refine sim_ite Iff.rfl (fun _ => ?_) (fun g0 => sim_some rfl)
  obtain ⟨x1, x2, x3, -⟩ := b6 g hg
  exact sim_L (ztg_e (rT3 h.1)) (sim_L (c_the h w1 w2) (sim_L (gfR_v a2 b4) (sim_L (ztg_e (lf_tag b5)) (sim_L (lf_get b5 g rfl hg) (sim_L (zcast_1 x2) (sim_L (gfI_v x2 x3) (sim_R (m_sl (w := w) (k := 39) (j := g) hg8 e8 (by show 8 * w + g < 112; omega) (by omega)) (sim_some rfl))))))))
theorem o_clause {G : CG} {L : Ly} {u : Sg} {m : Mu} (h : RC G L u m) (v i : Int) (hv : w32 v = v) (hi : w32 i = i) : sim (f0_clause G (some (L.1 3)) v i u) (m5_clause v i m) same1 := by
  unfold f0_clause m5_clause
  refine sim_L (ztg_e (rT3 h.1)) (sim_L (c_isW h hv) (sim_R (m_isW h hv) (sim_test (fun _ => sim_some rfl) (fun h1 => ?_))))
  obtain ⟨w, rfl, w1, w12, w2, hM, hA⟩ := wo_at h h1
  rw [hi]
  refine sim_ite Iff.rfl (fun _ => sim_some rfl) (fun g0 => ?_)
  obtain ⟨⟨a1, a2⟩, -, -, -, ⟨l4, e4, b7, b8, b9⟩, -⟩ := hA
  obtain ⟨⟨m1, m2, m3, m4, m5, m6, -⟩, -⟩ := hM
  refine sim_L (ztg_e (rT3 h.1)) (sim_L (c_the h w1 w2) (sim_L (gfR_v a2 b7) (sim_L (ztg_e (lf_tag b8)) (sim_L (lf_size b8) ?_))))
  refine sim_R (m_sl (w := w) (j := 0) (by decide) (by show (w : Int) = ((1 * w + 0 : Nat) : Int); omega) (by show 1 * w + 0 < 14; omega) (by omega)) ?_
  rw [show ((nC (slc m w) : Nat) : Int) = slc m w 23 0 by unfold nC; omega, w32_id (x := slc m w 23 0) (by omega) (by omega)]
  refine sim_iteN (by omega) (fun g1 => ?_) (fun _ => sim_some rfl)
  have hg : (i - 1).toNat < nC (slc m w) := by unfold nC; omega
  obtain ⟨z1, z2, z3, -⟩ := b9 (i - 1).toNat hg
  have hg24 : (i - 1).toNat < 24 := by omega
  exact sim_L (ztg_e (rT3 h.1)) (sim_L (c_the h w1 w2) (sim_L (gfR_v a2 b7) (sim_L (ztg_e (lf_tag b8)) (sim_L (lf_get b8 (i - 1).toNat (by omega) hg) (sim_L (zcast_1 z2) (sim_L (gfI_v z2 z3) (sim_R (m_sl (w := w) (k := 24) (j := (i - 1).toNat) hg24 (by show _ = ((24 * w + (i - 1).toNat : Nat) : Int); omega) (by show 24 * w + (i - 1).toNat < 336; omega) (by omega)) (sim_some rfl))))))))

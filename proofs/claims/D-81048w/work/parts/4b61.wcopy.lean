/-! THE TWIN: the wording of the text comes to its place -/
def KA7 : List Nat := [12, 13, 14, 15, 16, 17, 18, 19, 20, 21, 22, 23, 24, 25, 26, 27, 28, 29, 30, 31, 32, 33, 34, 35, 36, 37]
theorem CPY_mpl {w v : Nat} {m t : Mu} (h1 : t.1 = m.1) (ho : ∀ k, k ∉ KW → t.2 k = m.2 k) (hc : ∀ k ∈ KW, CPY k w v (wid k) m t) : mpl w KA7 m t := by
  refine ⟨h1, fun k hk => ho k (fun q => hk ((show ∀ k ∈ KW, k ∈ KA7 by decide) k q)), fun k j hj => ?_⟩
  by_cases z : k ∈ KW
  · rw [hc k z, if_neg (by omega)]
  · rw [ho k z]
/-- the value that comes to the place w -/
def WT (m : Mu) (w : Nat) (W2 : Wv) : Prop := (∀ k ∈ KW, ∀ j, j < wid k → W2 k j = slc m 0 k j) ∧ (∀ j, j < nM (slc m 0) → W2 21 j = slc m 0 21 j ∧ W2 22 j = slc m 0 22 j) ∧ (∀ j, j < nP (slc m 0) → W2 30 j = slc m 0 30 j ∧ W2 31 j = slc m 0 31 j) ∧ W2 23 0 = m.1 56 ∧ (∀ j : Nat, (j : Int) < m.1 56 → W2 24 j = m.2 53 j ∧ W2 25 j = m.2 54 j ∧ W2 26 j = m.2 55 j) ∧ W2 33 0 = m.1 46 ∧ ∀ i : Nat, (i : Int) < m.1 46 → nd W2 i = w8n (ndN m i)
theorem m_wcopy {m : Mu} {w nm np nc made : Nat} (hw : 1 ≤ w ∧ w ≤ 12) (h19 : m.2 19 0 = (nm : Int)) (hm : nm ≤ 12) (h27 : m.2 27 0 = (np : Int)) (hp : np ≤ 24) (h56 : m.1 56 = (nc : Int)) (hc : nc ≤ 24) (h46 : m.1 46 = (made : Int)) (hmd : made ≤ 2400) : ∃ m', ((m5_clear w m).bind fun u1 => (m5_copyWording w 0 u1).bind fun u2 => (m5_takeNodes w 0 (u2.1 46) u2).bind fun u3 => (m5_wording_l83 w NN 0 u3).bind fun q4 => (mast q4 23 14 w (q4.1 56)).bind fun u5 => (m5_wording_l145 w NN 0 u5).bind fun q6 => m5_wording_l212 w NN 0 q6) = some m' ∧ mpl w KA7 m m' ∧ WT m w (slc m' w) := by
  obtain ⟨m1, a1, a2, a3, a4⟩ := m_clear (m := m) (w := w) (by omega)
  have a2' : mpl w KA7 m m1 := mpl_up a2 (by decide)
  rw [a1, Option.bind_some]
  have z0 : ∀ {t : Mu}, mpl w KA7 m t → ∀ k, 0 < wid k → ∀ j, j < wid k → t.2 k j = m.2 k j := fun {t} ht k hk j hj => ht.2.2 k j (Or.inl (by
    have : wid k * 1 ≤ wid k * w := Nat.mul_le_mul_left _ hw.1
    omega))
  obtain ⟨m2, b1, b2, b3, b4⟩ := m_copyW (m := m1) (w := w) (v := 0) (by omega) (by omega) (by omega)
  rw [show (0 : Int) = ((0 : Nat) : Int) from rfl, b1, Option.bind_some]
  have b5 : mpl w KA7 m m2 := mpl_tr a2' (CPY_mpl b2 b3 b4)
  have c33 : m2.2 33 w = ((0 : Nat) : Int) := by rw [b3 33 (by decide)]; exact a3.2.2.2.2
  have e46 : m2.1 46 = (made : Int) := by rw [b5.1]; exact h46
  have nd2 : ∀ k, ndN m2 k = ndN m k := fun k => nd_of (fun j hj => b5.2.1 j (by rcases hj with rfl | rfl | rfl | rfl <;> decide)) k
  obtain ⟨m3, d1, d2, d3, -, d5⟩ := m_takeN (m := m2) (w := w) (s := 0) (e := made) (c := 0) (by omega) (by omega) (by omega) c33 (by omega)
  rw [e46, d1, Option.bind_some]
  have d6 : mpl w KA7 m m3 := mpl_tr b5 (mpl_up d2 (by decide))
  obtain ⟨m4, f1, f2, f3⟩ := m_w83 (m := m3) (w := w) (n := nm) (by omega) hm (by rw [z0 d6 19 (by decide) 0 (by decide)]; exact h19)
  have f1' : m5_wording_l83 w NN ((0 : Nat) : Int) m3 = some m4 := f1
  rw [f1', Option.bind_some, mast_e w rfl (by omega) (by omega), Option.bind_some]
  have f4 : mpl w KA7 m m4 := mpl_tr d6 (mpl_up f2 (by decide))
  have e456 : m4.1 56 = (nc : Int) := by rw [f4.1]; exact h56
  rw [e456]
  obtain ⟨m5, h5⟩ : ∃ m5, m5 = ma m4 23 w (nc : Int) := ⟨_, rfl⟩
  rw [← h5]
  have g1 : mpl w KA7 m m5 := by rw [h5]; exact mpl_ma f4 (by decide) (by show 1 * w ≤ w; omega) (by show w < 1 * w + 1; omega)
  obtain ⟨m6, i1, i2, i3⟩ := m_w145 (m := m5) (w := w) (n := nc) (by omega) hc (by rw [g1.1]; exact h56)
  have i1' : m5_wording_l145 w NN ((0 : Nat) : Int) m5 = some m6 := i1
  rw [i1', Option.bind_some]
  have i4 : mpl w KA7 m m6 := mpl_tr g1 (mpl_up i2 (by decide))
  obtain ⟨m7, j1, j2, j3⟩ := m_w212 (m := m6) (w := w) (n := np) (by omega) hp (by rw [z0 i4 27 (by decide) 0 (by decide)]; exact h27)
  have j1' : m5_wording_l212 w NN ((0 : Nat) : Int) m6 = some m7 := j1
  have j4 : mpl w KA7 m m7 := mpl_tr i4 (mpl_up j2 (by decide))
  refine ⟨m7, j1', j4, ?_⟩
  have sl : ∀ k j, j < wid k → slc m7 w k j = m7.2 k (wid k * w + j) := fun k j hj => by unfold slc; rw [if_pos hj]
  have s0 : ∀ k j, j < wid k → slc m 0 k j = m.2 k j := fun k j hj => by unfold slc; rw [if_pos hj, Nat.mul_zero, Nat.zero_add]
  have o7 : ∀ k, k ∉ [30, 31] → k ∉ [24, 25, 26] → k ≠ 23 → k ∉ [21, 22] → m7.2 k = m3.2 k := fun k q1 q2 q3 q4 => by rw [j2.2.1 k q1, i2.2.1 k q2, h5, ma_o q3, f2.2.1 k q4]
  have nM0 : nM (slc m 0) = nm := by show (slc m 0 19 0).toNat = nm; rw [s0 19 0 (by decide), h19]; omega
  have nP0 : nP (slc m 0) = np := by show (slc m 0 27 0).toNat = np; rw [s0 27 0 (by decide), h27]; omega
  refine ⟨fun k hk j hj => ?_, fun j hj => ?_, fun j hj => ?_, ?_, fun j hj => ?_, ?_, fun i hi => ?_⟩
  · have hk' : k ∉ [30, 31] ∧ k ∉ [24, 25, 26] ∧ k ≠ 23 ∧ k ∉ [21, 22] ∧ k ∉ KN := by
      have key : ∀ k ∈ KW, k ∉ [30, 31] ∧ k ∉ [24, 25, 26] ∧ k ≠ 23 ∧ k ∉ [21, 22] ∧ k ∉ KN := by decide
      exact key k hk
    rw [sl k j hj, s0 k j hj, o7 k hk'.1 hk'.2.1 hk'.2.2.1 hk'.2.2.2.1, d2.2.1 k hk'.2.2.2.2, CPY_g (b4 k hk) hj, Nat.mul_zero, Nat.zero_add]
    exact z0 a2' k (by omega) j hj
  · rw [nM0] at hj
    rw [sl 21 j (by show j < 12; omega), sl 22 j (by show j < 12; omega), s0 21 j (by show j < 12; omega), s0 22 j (by show j < 12; omega), j2.2.1 21 (by decide), j2.2.1 22 (by decide), i2.2.1 21 (by decide), i2.2.1 22 (by decide), h5, ma_o (by decide), ma_o (by decide)]
    obtain ⟨q1, q2⟩ := f3 j hj
    refine ⟨?_, ?_⟩
    · show m4.2 21 (12 * w + j) = _; rw [q1]; exact z0 d6 21 (by decide) j (by show j < 12; omega)
    · show m4.2 22 (12 * w + j) = _; rw [q2]; exact z0 d6 22 (by decide) j (by show j < 12; omega)
  · rw [nP0] at hj
    rw [sl 30 j (by show j < 24; omega), sl 31 j (by show j < 24; omega), s0 30 j (by show j < 24; omega), s0 31 j (by show j < 24; omega)]
    obtain ⟨q1, q2⟩ := j3 j hj
    refine ⟨?_, ?_⟩
    · show m7.2 30 (24 * w + j) = _; rw [q1]; exact z0 i4 30 (by decide) j (by show j < 24; omega)
    · show m7.2 31 (24 * w + j) = _; rw [q2]; exact z0 i4 31 (by decide) j (by show j < 24; omega)
  · rw [slc_1 rfl, j2.2.1 23 (by decide), i2.2.1 23 (by decide), h5, ma_s, if_pos rfl, h56]
  · rw [h56] at hj
    rw [sl 24 j (by show j < 24; omega), sl 25 j (by show j < 24; omega), sl 26 j (by show j < 24; omega), j2.2.1 24 (by decide), j2.2.1 25 (by decide), j2.2.1 26 (by decide)]
    obtain ⟨q1, q2, q3⟩ := i3 j (by omega)
    refine ⟨?_, ?_, ?_⟩
    · show m6.2 24 (24 * w + j) = _; rw [q1, g1.2.1 53 (by decide)]
    · show m6.2 25 (24 * w + j) = _; rw [q2, g1.2.1 54 (by decide)]
    · show m6.2 26 (24 * w + j) = _; rw [q3, g1.2.1 55 (by decide)]
  · rw [slc_1 rfl, o7 33 (by decide) (by decide) (by decide) (by decide), d3, h46]; rw [show 0 + (made - 0) = made by omega]
  · rw [h46] at hi
    have := d5 i (by omega)
    rw [Nat.zero_add, nd2] at this
    rw [← this]
    unfold nd ndP
    rw [sl 34 i (by show i < 2400; omega), sl 35 i (by show i < 2400; omega), sl 36 i (by show i < 2400; omega), sl 37 i (by show i < 2400; omega), o7 34 (by decide) (by decide) (by decide) (by decide), o7 35 (by decide) (by decide) (by decide) (by decide), o7 36 (by decide) (by decide) (by decide) (by decide), o7 37 (by decide) (by decide) (by decide) (by decide)]
    rfl

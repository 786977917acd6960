/-! THE TWIN: copyWording, whole -/
theorem m_cp200 {m : Mu} {w v : Nat} (hw : w ≤ 13) (hv : v ≤ 13) (hne : v ≠ w) : ∃ t', m5_copyWording_l200 w v NN 0 m = some t' ∧ t'.1 = m.1 ∧ (∀ k, k ≠ 20 → t'.2 k = m.2 k) ∧ CPY 20 w v 12 m t' := by
  have key : ∀ (d g i : Nat) (s : Mu), i + d = 12 → d < g → s.1 = m.1 → (∀ k, k ≠ 20 → s.2 k = m.2 k) → CPY 20 w v i m s → ∃ t', m5_copyWording_l200 w v g i s = some t' ∧ t'.1 = m.1 ∧ (∀ k, k ≠ 20 → t'.2 k = m.2 k) ∧ CPY 20 w v 12 m t' := by
    intro d
    induction d with
    | zero =>
      intro g i s hi hg h1 h2 h3
      obtain ⟨g, rfl⟩ : ∃ x, g = x + 1 := ⟨g - 1, by omega⟩
      have hi' : i = 12 := by omega
      subst hi'
      refine ⟨s, ?_, h1, h2, h3⟩
      unfold m5_copyWording_l200
      rw [w32_n (by omega), if_pos (by omega)]
    | succ d ih =>
      intro g i s hi hg h1 h2 h3
      obtain ⟨g, rfl⟩ : ∃ x, g = x + 1 := ⟨g - 1, by omega⟩
      unfold m5_copyWording_l200
      rw [w32_n (by omega), if_neg (by omega), mald_e (12 * v + i) (by omega) (by omega) (by omega), Option.bind_some, mast_e (12 * w + i) (by omega) (by omega) (by omega), Option.bind_some]
      exact ih g (i + 1) _ (by omega) (by omega) h1 (fun k hk => by rw [ma_o hk]; exact h2 k hk) (CPY_s hne (by show i < 12; omega) h3)
  exact key 12 NN 0 m rfl (NN_gt (by omega)) rfl (fun _ _ => rfl) CPY_0
theorem m_cp306 {m : Mu} {w v : Nat} (hw : w ≤ 13) (hv : v ≤ 13) (hne : v ≠ w) : ∃ t', m5_copyWording_l306 w v NN 0 m = some t' ∧ t'.1 = m.1 ∧ (∀ k, k ≠ 32 → t'.2 k = m.2 k) ∧ CPY 32 w v 5 m t' := by
  have key : ∀ (d g i : Nat) (s : Mu), i + d = 5 → d < g → s.1 = m.1 → (∀ k, k ≠ 32 → s.2 k = m.2 k) → CPY 32 w v i m s → ∃ t', m5_copyWording_l306 w v g i s = some t' ∧ t'.1 = m.1 ∧ (∀ k, k ≠ 32 → t'.2 k = m.2 k) ∧ CPY 32 w v 5 m t' := by
    intro d
    induction d with
    | zero =>
      intro g i s hi hg h1 h2 h3
      obtain ⟨g, rfl⟩ : ∃ x, g = x + 1 := ⟨g - 1, by omega⟩
      have hi' : i = 5 := by omega
      subst hi'
      refine ⟨s, ?_, h1, h2, h3⟩
      unfold m5_copyWording_l306
      rw [w32_n (by omega), if_pos (by omega)]
    | succ d ih =>
      intro g i s hi hg h1 h2 h3
      obtain ⟨g, rfl⟩ : ∃ x, g = x + 1 := ⟨g - 1, by omega⟩
      unfold m5_copyWording_l306
      rw [w32_n (by omega), if_neg (by omega), mald_e (5 * v + i) (by omega) (by omega) (by omega), Option.bind_some, mast_e (5 * w + i) (by omega) (by omega) (by omega), Option.bind_some]
      exact ih g (i + 1) _ (by omega) (by omega) h1 (fun k hk => by rw [ma_o hk]; exact h2 k hk) (CPY_s hne (by show i < 5; omega) h3)
  exact key 5 NN 0 m rfl (NN_gt (by omega)) rfl (fun _ _ => rfl) CPY_0
theorem m_cp248 {m : Mu} {w v : Nat} (hw : w ≤ 13) (hv : v ≤ 13) (hne : v ≠ w) : ∃ t', m5_copyWording_l248 w v NN 0 m = some t' ∧ t'.1 = m.1 ∧ (∀ k, k ≠ 28 → k ≠ 29 → t'.2 k = m.2 k) ∧ CPY 28 w v 24 m t' ∧ CPY 29 w v 24 m t' := by
  have key : ∀ (d g i : Nat) (s : Mu), i + d = 24 → d < g → s.1 = m.1 → (∀ k, k ≠ 28 → k ≠ 29 → s.2 k = m.2 k) → CPY 28 w v i m s → CPY 29 w v i m s → ∃ t', m5_copyWording_l248 w v g i s = some t' ∧ t'.1 = m.1 ∧ (∀ k, k ≠ 28 → k ≠ 29 → t'.2 k = m.2 k) ∧ CPY 28 w v 24 m t' ∧ CPY 29 w v 24 m t' := by
    intro d
    induction d with
    | zero =>
      intro g i s hi hg h1 h2 h3 h4
      obtain ⟨g, rfl⟩ : ∃ x, g = x + 1 := ⟨g - 1, by omega⟩
      have hi' : i = 24 := by omega
      subst hi'
      refine ⟨s, ?_, h1, h2, h3, h4⟩
      unfold m5_copyWording_l248
      rw [w32_n (by omega), if_pos (by omega)]
    | succ d ih =>
      intro g i s hi hg h1 h2 h3 h4
      obtain ⟨g, rfl⟩ : ∃ x, g = x + 1 := ⟨g - 1, by omega⟩
      unfold m5_copyWording_l248
      rw [w32_n (by omega), if_neg (by omega), mald_e (24 * v + i) (by omega) (by omega) (by omega), Option.bind_some, mast_e (24 * w + i) (by omega) (by omega) (by omega), Option.bind_some, mald_e (24 * v + i) (by omega) (by omega) (by omega), Option.bind_some, mast_e (24 * w + i) (by omega) (by omega) (by omega), Option.bind_some]
      refine ih g (i + 1) _ (by omega) (by omega) h1 (fun k hk hk2 => by rw [ma_o hk2, ma_o hk]; exact h2 k hk hk2) (CPY_o (by decide) (CPY_s hne (by show i < 24; omega) h3)) (CPY_s hne (by show i < 24; omega) (CPY_o (by decide) h4))
  exact key 24 NN 0 m rfl (NN_gt (by omega)) rfl (fun _ _ _ => rfl) CPY_0 CPY_0
theorem CPY_cg {k w v n : Nat} {m m' t t' : Mu} (h : CPY k w v n m t) (e1 : m'.2 k = m.2 k) (e2 : t'.2 k = t.2 k) : CPY k w v n m' t' := fun x => by rw [e2, e1]; exact h x
/-- the arrays of a wording that are copied, with their lengths -/
def KW : List Nat := [12, 13, 14, 15, 16, 17, 18, 19, 20, 27, 28, 29, 32]
theorem m_copyW {m : Mu} {w v : Nat} (hw : w ≤ 13) (hv : v ≤ 13) (hne : v ≠ w) : ∃ t', m5_copyWording w v m = some t' ∧ t'.1 = m.1 ∧ (∀ k, k ∉ KW → t'.2 k = m.2 k) ∧ ∀ k ∈ KW, CPY k w v (wid k) m t' := by
  unfold m5_copyWording
  rw [mald_e v rfl (by omega) (by omega), Option.bind_some, mast_e w rfl (by omega) (by omega), Option.bind_some]
  have one : ∀ (k : Nat) (s : Mu), wid k = 1 → CPY k w v 1 s (ma s k w (s.2 k v)) := fun k s hk => by
    have := CPY_s (k := k) (n := 0) hne (by omega) (CPY_0 (w := w) (v := v) (m := s))
    rw [hk, Nat.one_mul, Nat.one_mul, Nat.add_zero, Nat.add_zero] at this
    exact this
  obtain ⟨m1, h1⟩ : ∃ m1, m1 = ma m 12 w (m.2 12 v) := ⟨_, rfl⟩
  rw [← h1]
  have C12 : CPY 12 w v 1 m m1 := by rw [h1]; exact one 12 m rfl
  have o1 : ∀ k, k ≠ 12 → m1.2 k = m.2 k := fun k hk => by rw [h1, ma_o hk]
  have m11 : m1.1 = m.1 := by rw [h1]; rfl
  obtain ⟨m2, a1, a2, a3, a4, a5⟩ := m_cp14 (m := m) (t := m1) hw hv hne m11 (fun k hk => o1 k (fun e => by rw [e] at hk; exact absurd hk (by decide)))
  rw [a1, Option.bind_some, mald_e v rfl (by omega) (by omega), Option.bind_some, mast_e w rfl (by omega) (by omega), Option.bind_some]
  obtain ⟨m3, h3⟩ : ∃ m3, m3 = ma m2 19 w (m2.2 19 v) := ⟨_, rfl⟩
  rw [← h3]
  have C19 : CPY 19 w v 1 m2 m3 := by rw [h3]; exact one 19 m2 rfl
  have o3 : ∀ k, k ≠ 19 → m3.2 k = m2.2 k := fun k hk => by rw [h3, ma_o hk]
  obtain ⟨m4, b1, b2, b3, b4⟩ := m_cp200 (m := m3) hw hv hne
  rw [b1, Option.bind_some, mald_e v rfl (by omega) (by omega), Option.bind_some, mast_e w rfl (by omega) (by omega), Option.bind_some]
  obtain ⟨m5, h5⟩ : ∃ m5, m5 = ma m4 27 w (m4.2 27 v) := ⟨_, rfl⟩
  rw [← h5]
  have C27 : CPY 27 w v 1 m4 m5 := by rw [h5]; exact one 27 m4 rfl
  have o5 : ∀ k, k ≠ 27 → m5.2 k = m4.2 k := fun k hk => by rw [h5, ma_o hk]
  obtain ⟨m6, c1, c2, c3, c4, c5⟩ := m_cp248 (m := m5) hw hv hne
  rw [c1, Option.bind_some]
  obtain ⟨m7, d1, d2, d3, d4⟩ := m_cp306 (m := m6) hw hv hne
  rw [d1, Option.bind_some]
  have up : ∀ k, k ≠ 19 → k ≠ 20 → k ≠ 27 → k ≠ 28 → k ≠ 29 → k ≠ 32 → m7.2 k = m2.2 k := fun k e1 e2 e3 e4 e5 e6 => by rw [d3 k e6, c3 k e4 e5, o5 k e3, b3 k e2, o3 k e1]
  have dn : ∀ k, k ∉ K5 → k ≠ 16 → k ≠ 12 → m2.2 k = m.2 k := fun k e1 e2 e3 => by rw [a3 k e1 e2, o1 k e3]
  refine ⟨m7, rfl, ?_, fun k hk => ?_, fun k hk => ?_⟩
  · rw [d2, c2, h5]; show m4.1 = m.1; rw [b2, h3]; show m2.1 = m.1; rw [a2, m11]
  · simp only [KW, List.mem_cons, List.not_mem_nil, or_false] at hk
    rw [up k (by omega) (by omega) (by omega) (by omega) (by omega) (by omega), dn k (by simp only [K5, List.mem_cons, List.not_mem_nil, or_false]; omega) (by omega) (by omega)]
  · simp only [KW, List.mem_cons, List.not_mem_nil, or_false] at hk
    rcases hk with rfl | rfl | rfl | rfl | rfl | rfl | rfl | rfl | rfl | rfl | rfl | rfl | rfl
    · exact CPY_cg C12 rfl (by rw [up 12 (by decide) (by decide) (by decide) (by decide) (by decide) (by decide), a3 12 (by decide) (by decide)])
    · exact CPY_cg (a4 13 (by decide)) rfl (up 13 (by decide) (by decide) (by decide) (by decide) (by decide) (by decide))
    · exact CPY_cg (a4 14 (by decide)) rfl (up 14 (by decide) (by decide) (by decide) (by decide) (by decide) (by decide))
    · exact CPY_cg (a4 15 (by decide)) rfl (up 15 (by decide) (by decide) (by decide) (by decide) (by decide) (by decide))
    · exact CPY_cg a5 rfl (up 16 (by decide) (by decide) (by decide) (by decide) (by decide) (by decide))
    · exact CPY_cg (a4 17 (by decide)) rfl (up 17 (by decide) (by decide) (by decide) (by decide) (by decide) (by decide))
    · exact CPY_cg (a4 18 (by decide)) rfl (up 18 (by decide) (by decide) (by decide) (by decide) (by decide) (by decide))
    · exact CPY_cg C19 (by rw [dn 19 (by decide) (by decide) (by decide)]) (by rw [d3 19 (by decide), c3 19 (by decide) (by decide), o5 19 (by decide), b3 19 (by decide)])
    · exact CPY_cg b4 (by rw [o3 20 (by decide), dn 20 (by decide) (by decide) (by decide)]) (by rw [d3 20 (by decide), c3 20 (by decide) (by decide), o5 20 (by decide)])
    · exact CPY_cg C27 (by rw [b3 27 (by decide), o3 27 (by decide), dn 27 (by decide) (by decide) (by decide)]) (by rw [d3 27 (by decide), c3 27 (by decide) (by decide)])
    · exact CPY_cg c4 (by rw [o5 28 (by decide), b3 28 (by decide), o3 28 (by decide), dn 28 (by decide) (by decide) (by decide)]) (by rw [d3 28 (by decide)])
    · exact CPY_cg c5 (by rw [o5 29 (by decide), b3 29 (by decide), o3 29 (by decide), dn 29 (by decide) (by decide) (by decide)]) (by rw [d3 29 (by decide)])
    · exact CPY_cg d4 (by rw [c3 32 (by decide) (by decide), o5 32 (by decide), b3 32 (by decide), o3 32 (by decide), dn 32 (by decide) (by decide) (by decide)]) rfl

/-! THE TWIN: copyWording -/
/-- n numbers of the array k were copied from the place v to the place w -/
def CPY (k w v n : Nat) (m t : Mu) : Prop := ∀ x, t.2 k x = if wid k * w ≤ x ∧ x < wid k * w + n then m.2 k (wid k * v + (x - wid k * w)) else m.2 k x
theorem CPY_0 {k w v : Nat} {m : Mu} : CPY k w v 0 m m := fun x => by rw [if_neg (by omega)]
theorem CPY_s {k w v n : Nat} {m t : Mu} (hv : v ≠ w) (hn : n < wid k) (h : CPY k w v n m t) : CPY k w v (n + 1) m (ma t k (wid k * w + n) (t.2 k (wid k * v + n))) := by
  intro x
  have hd : ¬ (wid k * w ≤ wid k * v + n ∧ wid k * v + n < wid k * w + n) := by
    rcases Nat.lt_or_gt_of_ne hv with q | q
    · have : wid k * (v + 1) ≤ wid k * w := Nat.mul_le_mul_left _ (by omega)
      rw [Nat.mul_add] at this; omega
    · have : wid k * (w + 1) ≤ wid k * v := Nat.mul_le_mul_left _ (by omega)
      rw [Nat.mul_add] at this; omega
  rw [ma_s, h, if_neg hd, h]
  by_cases z : x = wid k * w + n
  · rw [if_pos z, if_pos (by omega), show x - wid k * w = n by omega]
  · rw [if_neg z]
    by_cases y : wid k * w ≤ x ∧ x < wid k * w + n
    · rw [if_pos y, if_pos (by omega)]
    · rw [if_neg y, if_neg (by omega)]
theorem CPY_o {k w v n k' i : Nat} {m t : Mu} {x : Int} (hk : k ≠ k') (h : CPY k w v n m t) : CPY k w v n m (ma t k' i x) := fun y => by rw [ma_o hk]; exact h y
theorem CPY_g {k w v n : Nat} {m t : Mu} (h : CPY k w v n m t) {j : Nat} (hj : j < n) : t.2 k (wid k * w + j) = m.2 k (wid k * v + j) := by
  rw [h, if_pos (by omega), Nat.add_sub_cancel_left]
theorem m_cp133 {m t : Mu} {w v f : Nat} (hw : w ≤ 13) (hv : v ≤ 13) (hne : v ≠ w) (hf : f < 8) (h : CPY 16 w v (6 * f) m t) : ∃ t', m5_copyWording_l133 w v f NN 0 t = some t' ∧ t'.1 = t.1 ∧ (∀ k, k ≠ 16 → t'.2 k = t.2 k) ∧ CPY 16 w v (6 * f + 6) m t' := by
  have key : ∀ (d g i : Nat) (s : Mu), i + d = 6 → d < g → s.1 = t.1 → (∀ k, k ≠ 16 → s.2 k = t.2 k) → CPY 16 w v (6 * f + i) m s → ∃ t', m5_copyWording_l133 w v f g i s = some t' ∧ t'.1 = t.1 ∧ (∀ k, k ≠ 16 → t'.2 k = t.2 k) ∧ CPY 16 w v (6 * f + 6) m t' := by
    intro d
    induction d with
    | zero =>
      intro g i s hi hg h1 h2 h3
      obtain ⟨g, rfl⟩ : ∃ x, g = x + 1 := ⟨g - 1, by omega⟩
      refine ⟨s, ?_, h1, h2, by rw [show 6 * f + 6 = 6 * f + i by omega]; exact h3⟩
      unfold m5_copyWording_l133
      rw [w32_n (by omega), if_pos (by omega)]
    | succ d ih =>
      intro g i s hi hg h1 h2 h3
      obtain ⟨g, rfl⟩ : ∃ x, g = x + 1 := ⟨g - 1, by omega⟩
      unfold m5_copyWording_l133
      rw [w32_n (by omega), if_neg (by omega), mald_e (48 * v + (6 * f + i)) (by omega) (by omega) (by omega), Option.bind_some, mast_e (48 * w + (6 * f + i)) (by omega) (by omega) (by omega), Option.bind_some]
      exact ih g (i + 1) _ (by omega) (by omega) h1 (fun k hk => by rw [ma_o hk]; exact h2 k hk) (CPY_s hne (by show 6 * f + i < 48; omega) h3)
  exact key 6 NN 0 t rfl (NN_gt (by omega)) rfl (fun _ _ => rfl) h
/-- the facts' arrays but the choices -/
def K5 : List Nat := [13, 14, 15, 17, 18]
theorem m_cp14 {m t : Mu} {w v : Nat} (hw : w ≤ 13) (hv : v ≤ 13) (hne : v ≠ w) (h1 : t.1 = m.1) (h5 : ∀ k, k ∈ K5 ∨ k = 16 → t.2 k = m.2 k) : ∃ t', m5_copyWording_l14 w v NN 0 t = some t' ∧ t'.1 = t.1 ∧ (∀ k, k ∉ K5 → k ≠ 16 → t'.2 k = t.2 k) ∧ (∀ k ∈ K5, CPY k w v 8 m t') ∧ CPY 16 w v 48 m t' := by
  have key : ∀ (d g i : Nat) (s : Mu), i + d = 8 → d < g → s.1 = t.1 → (∀ k, k ∉ K5 → k ≠ 16 → s.2 k = t.2 k) → (∀ k ∈ K5, CPY k w v i m s) → CPY 16 w v (6 * i) m s → ∃ t', m5_copyWording_l14 w v g i s = some t' ∧ t'.1 = t.1 ∧ (∀ k, k ∉ K5 → k ≠ 16 → t'.2 k = t.2 k) ∧ (∀ k ∈ K5, CPY k w v 8 m t') ∧ CPY 16 w v 48 m t' := by
    intro d
    induction d with
    | zero =>
      intro g i s hi hg q1 q2 q3 q4
      obtain ⟨g, rfl⟩ : ∃ x, g = x + 1 := ⟨g - 1, by omega⟩
      have hi8 : i = 8 := by omega
      subst hi8
      refine ⟨s, ?_, q1, q2, q3, q4⟩
      unfold m5_copyWording_l14
      rw [w32_n (by omega), if_pos (by omega)]
    | succ d ih =>
      intro g i s hi hg q1 q2 q3 q4
      obtain ⟨g, rfl⟩ : ∃ x, g = x + 1 := ⟨g - 1, by omega⟩
      unfold m5_copyWording_l14
      rw [w32_n (by omega), if_neg (by omega), mald_e (8 * v + i) (by omega) (by omega) (by omega), Option.bind_some, mast_e (8 * w + i) (by omega) (by omega) (by omega), Option.bind_some, mald_e (8 * v + i) (by omega) (by omega) (by omega), Option.bind_some, mast_e (8 * w + i) (by omega) (by omega) (by omega), Option.bind_some, mald_e (8 * v + i) (by omega) (by omega) (by omega), Option.bind_some, mast_e (8 * w + i) (by omega) (by omega) (by omega), Option.bind_some, mald_e (8 * v + i) (by omega) (by omega) (by omega), Option.bind_some, mast_e (8 * w + i) (by omega) (by omega) (by omega), Option.bind_some, mald_e (8 * v + i) (by omega) (by omega) (by omega), Option.bind_some, mast_e (8 * w + i) (by omega) (by omega) (by omega), Option.bind_some]
      obtain ⟨s1, e1⟩ : ∃ s1, s1 = ma s 13 (8 * w + i) (s.2 13 (8 * v + i)) := ⟨_, rfl⟩
      obtain ⟨s2, e2⟩ : ∃ s2, s2 = ma s1 14 (8 * w + i) (s1.2 14 (8 * v + i)) := ⟨_, rfl⟩
      obtain ⟨s3, e3⟩ : ∃ s3, s3 = ma s2 15 (8 * w + i) (s2.2 15 (8 * v + i)) := ⟨_, rfl⟩
      obtain ⟨s4, e4⟩ : ∃ s4, s4 = ma s3 17 (8 * w + i) (s3.2 17 (8 * v + i)) := ⟨_, rfl⟩
      obtain ⟨s5, e5⟩ : ∃ s5, s5 = ma s4 18 (8 * w + i) (s4.2 18 (8 * v + i)) := ⟨_, rfl⟩
      rw [← e1, ← e2, ← e3, ← e4, ← e5]
      have hi8 : i < 8 := by omega
      have C13 : CPY 13 w v (i + 1) m s5 := by
        rw [e5, e4, e3, e2, e1]
        exact CPY_o (by decide) (CPY_o (by decide) (CPY_o (by decide) (CPY_o (by decide) (CPY_s hne hi8 (q3 13 (by decide))))))
      have C14 : CPY 14 w v (i + 1) m s5 := by
        rw [e5, e4, e3, e2]
        exact CPY_o (by decide) (CPY_o (by decide) (CPY_o (by decide) (CPY_s hne hi8 (by rw [e1]; exact CPY_o (by decide) (q3 14 (by decide))))))
      have C15 : CPY 15 w v (i + 1) m s5 := by
        rw [e5, e4, e3]
        exact CPY_o (by decide) (CPY_o (by decide) (CPY_s hne hi8 (by rw [e2, e1]; exact CPY_o (by decide) (CPY_o (by decide) (q3 15 (by decide))))))
      have C17 : CPY 17 w v (i + 1) m s5 := by
        rw [e5, e4]
        exact CPY_o (by decide) (CPY_s hne hi8 (by rw [e3, e2, e1]; exact CPY_o (by decide) (CPY_o (by decide) (CPY_o (by decide) (q3 17 (by decide))))))
      have C18 : CPY 18 w v (i + 1) m s5 := by
        rw [e5]
        exact CPY_s hne hi8 (by rw [e4, e3, e2, e1]; exact CPY_o (by decide) (CPY_o (by decide) (CPY_o (by decide) (CPY_o (by decide) (q3 18 (by decide))))))
      have C16 : CPY 16 w v (6 * i) m s5 := by
        rw [e5, e4, e3, e2, e1]
        exact CPY_o (by decide) (CPY_o (by decide) (CPY_o (by decide) (CPY_o (by decide) (CPY_o (by decide) q4))))
      have o5 : ∀ k, k ∉ K5 → s5.2 k = s.2 k := fun k hk => by
        simp only [K5, List.mem_cons, List.not_mem_nil, or_false] at hk
        rw [e5, ma_o (by omega), e4, ma_o (by omega), e3, ma_o (by omega), e2, ma_o (by omega), e1, ma_o (by omega)]
      obtain ⟨s6, f1, f2, f3, f4⟩ := m_cp133 hw hv hne hi8 C16
      rw [f1, Option.bind_some]
      have hs51 : s5.1 = s.1 := by rw [e5, e4, e3, e2, e1]; rfl
      refine ih g (i + 1) s6 (by omega) (by omega) (by rw [f2, hs51]; exact q1) (fun k hk hk6 => by rw [f3 k hk6, o5 k hk]; exact q2 k hk hk6) (fun k hk => ?_) (by rw [show 6 * (i + 1) = 6 * i + 6 by omega]; exact f4)
      have hk6 : k ≠ 16 := fun e => by rw [e] at hk; exact absurd hk (by decide)
      have hk' := hk
      simp only [K5, List.mem_cons, List.not_mem_nil, or_false] at hk'
      intro x
      rw [f3 k hk6]
      rcases hk' with rfl | rfl | rfl | rfl | rfl
      · exact C13 x
      · exact C14 x
      · exact C15 x
      · exact C17 x
      · exact C18 x
  refine key 8 NN 0 t rfl (NN_gt (by omega)) rfl (fun _ _ _ => rfl) (fun k hk x => ?_) (fun x => ?_)
  · rw [if_neg (by omega), h5 k (Or.inl hk)]
  · rw [if_neg (by omega), h5 16 (Or.inr rfl)]

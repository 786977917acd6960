/-! THE READER: what is wanted, on both sides -/
/-- the twin goes no further once it has a fault -/
theorem wS_f {v : Int} {m : Mu} (h : 1 ≤ m.1 8 ∧ m.1 8 ≤ 6) : m5_wantsSign v m = some m := by
  unfold m5_wantsSign
  rw [w32_id (x := m.1 8) (by omega) (by omega), if_neg (by omega)]
theorem wW_f {v : Int} {m : Mu} (h : 1 ≤ m.1 8 ∧ m.1 8 ≤ 6) : m5_wantsWord v m = some m := by
  unfold m5_wantsWord
  rw [w32_id (x := m.1 8) (by omega) (by omega), if_neg (by omega)]
theorem wN_f {lo hi : Int} {m : Mu} (h : 1 ≤ m.1 8 ∧ m.1 8 ≤ 6) : m5_wantsNumber lo hi m = some (lo, m) := by
  unfold m5_wantsNumber
  rw [w32_id (x := m.1 8) (by omega) (by omega), if_neg (by omega)]
/-- at a bad token that was not looked at, it says 1 -/
theorem wS_b {v : Int} {m : Mu} (hv : 0 ≤ v ∧ v < 100) (h8 : m.1 8 = 0) (h4 : m.1 4 = 5) : ∃ m', m5_wantsSign v m = some m' ∧ MF m m' 1 (m.1 5) := by
  obtain ⟨m', e, hm⟩ := m_cannot h8 (by rw [h4]; decide)
  rw [if_pos h4] at hm
  refine ⟨m', ?_, hm⟩
  unfold m5_wantsSign
  rw [h8, if_pos (by decide), m_isSq v hv (by rw [h4]; decide) (fun q => by omega), Option.bind_some, decide_eq_false (by omega), if_pos (by rfl), e]; rfl
theorem wW_b {v : Int} {m : Mu} (hv : 0 ≤ v ∧ v < 100) (h8 : m.1 8 = 0) (h4 : m.1 4 = 5) : ∃ m', m5_wantsWord v m = some m' ∧ MF m m' 1 (m.1 5) := by
  obtain ⟨m', e, hm⟩ := m_cannot h8 (by rw [h4]; decide)
  rw [if_pos h4] at hm
  refine ⟨m', ?_, hm⟩
  unfold m5_wantsWord
  rw [h8, if_pos (by decide), m_isWq v hv (by rw [h4]; decide) (fun q => by omega), Option.bind_some, decide_eq_false (by omega), if_pos (by rfl), e]; rfl
theorem wN_b {lo hi : Int} {m : Mu} (h8 : m.1 8 = 0) (h4 : m.1 4 = 5) : ∃ m', m5_wantsNumber lo hi m = some (lo, m') ∧ MF m m' 1 (m.1 5) := by
  obtain ⟨m', e, hm⟩ := m_cannot h8 (by rw [h4]; decide)
  rw [if_pos h4] at hm
  refine ⟨m', ?_, hm⟩
  unfold m5_wantsNumber
  rw [h8, if_pos (by decide), h4, if_neg (by decide), e]; rfl
/-- next that went well -/
def NX7 (G : CG) (L : Ly) (r : Nat) (t : Sg) (m : Mu) (t' : Sg) (m' : Mu) : Prop := R7 G L t' m' r ∧ m'.1 52 ≤ m'.1 5 ∧ fr7 r t t' ∧ zN t' = zN t ∧ (∀ k, (k < 280 ∨ 285 < k) → zI t' r k = zI t r k) ∧ m.1 5 < m'.1 5 ∧ m'.2 = m.2 ∧ ∀ k, (k < 3 ∨ 7 < k) → m'.1 k = m.1 k
/-- next, in the form for items -/
theorem next8 {G : CG} {L : Ly} {t : Sg} {m : Mu} {r : Nat} (h : R7 G L t m r) (hk : m.1 4 ≠ 0) (hc : m.1 52 ≤ m.1 5 + 1) : ∃ m', m5_next m = some m' ∧ mfr CS7 CA7 m m' ∧ ((∃ t', f7_next G (some r) t = some ((.inr (), t'), 0, 0) ∧ NX7 G L r t m t' m') ∨ (∃ e t', f7_next G (some r) t = some ((.inl e, t'), 1, 8) ∧ TH7 r t (m.1 5) e t' 1 8 1 (m'.1 5) ∧ m'.1 4 = 5 ∧ m'.1 8 = 0 ∧ m'.2 = m.2 ∧ ∀ k, (k < 3 ∨ 7 < k) → m'.1 k = m.1 k)) := by
  obtain ⟨m', e1, e2, e3, e4, e5, e6⟩ := next7 h hk hc
  refine ⟨m', e1, ⟨fun k hk => e3 k (by simp only [CS7, List.mem_cons, List.not_mem_nil, or_false] at hk; omega), fun k _ => by rw [e2]⟩, ?_⟩
  rcases e6 with ⟨t', p1, p2, p3, p4, p5, p6⟩ | ⟨e, t', p1, p2, p3, p4⟩
  · exact Or.inl ⟨t', p1, p2, p3, p4, p5, p6, e4, e2, e3⟩
  · exact Or.inr ⟨e, t', p1, p2, p3, by rw [e3 8 (by omega)]; exact h.2.2.2.2.2, e2, e3⟩
/-- a sign is wanted -/
theorem want7 {G : CG} {L : Ly} {t : Sg} {m : Mu} {r : Nat} (h : R7 G L t m r) (hc : m.1 52 ≤ m.1 5 + 1) {j : Nat} (hj : j < 10) {l v : Int} (hl : l = sgC j) (hv : v = (j : Int)) : ∃ m', m5_wantsSign v m = some m' ∧ ((∃ t', f7_want G (some r) l t = some ((.inr (), t'), 0, 0) ∧ NX7 G L r t m t' m') ∨ (∃ e t' K P, f7_want G (some r) l t = some ((.inl e, t'), 1, 8) ∧ TH7 r t (m.1 5) e t' 1 8 K P ∧ MFB m m' K P)) := by
  obtain ⟨k1, k2⟩ := tk_w h.2.2.1
  subst hv
  have e1 : m5_wantsSign (j : Int) m = if m.1 4 = 3 ∧ m.1 7 = (j : Int) then (m5_next m).bind fun u3 => some u3 else (m5_cannot m).bind fun u2 => some u2 := by
    unfold m5_wantsSign
    rw [h.2.2.2.2.2, if_pos (by decide), m_s7 h _ (by omega), Option.bind_some, w32_b2i]
    by_cases z : m.1 4 = 3 ∧ m.1 7 = (j : Int)
    · rw [decide_eq_true z, if_neg (by decide), if_pos z]
    · rw [decide_eq_false z, if_pos (by rfl), if_neg z]
  rw [e1]
  rcases c_want h hj hl with ⟨z, e, t', q1, q2⟩ | ⟨z, q1, q2⟩
  · obtain ⟨m', em, hm⟩ := m_cannot h.2.2.2.2.2 k1.2.2.1
    rw [if_neg (show ¬ m.1 4 = 5 by omega)] at hm
    refine ⟨m', by rw [if_neg z, em]; rfl, Or.inr ⟨e, t', 2, m.1 5, q1, q2, Or.inl hm⟩⟩
  · obtain ⟨m', n1, n2, n3⟩ := next8 h (by omega) hc
    refine ⟨m', by rw [if_pos z, n1]; rfl, ?_⟩
    rcases n3 with ⟨t', p1, p2⟩ | ⟨e, t', p1, p2, p3, p4, p5, p6⟩
    · exact Or.inl ⟨t', q1 t' p1, p2⟩
    · exact Or.inr ⟨e, t', 1, m'.1 5, q2 e t' p2.1 p1, p2, Or.inr ⟨rfl, p4, p3, rfl, n2⟩⟩
/-- a number is wanted -/
theorem number7 {G : CG} {L : Ly} {t : Sg} {m : Mu} {r : Nat} (h : R7 G L t m r) (hc : m.1 52 ≤ m.1 5 + 1) {lo hi : Int} (hl : 0 ≤ lo ∧ lo ≤ 1000000000) (hh : 0 ≤ hi ∧ hi ≤ 999999999) : ∃ x m', m5_wantsNumber lo hi m = some (x, m') ∧ ((∃ t', f7_number G (some r) lo hi t = some ((.inr x, t'), 0, 0) ∧ NX7 G L r t m t' m' ∧ lo ≤ x ∧ x ≤ hi) ∨ (∃ e t' K P, f7_number G (some r) lo hi t = some ((.inl e, t'), 1, 8) ∧ TH7 r t (m.1 5) e t' 1 8 K P ∧ MFB m m' K P)) := by
  obtain ⟨k1, k2⟩ := tk_w h.2.2.1
  unfold m5_wantsNumber m5_wantsNumber_b38
  rw [h.2.2.2.2.2, if_pos (by decide), k1.2.2.1, w32_id (x := lo) (by omega) (by omega), w32_id (x := hi) (by omega) (by omega)]
  rcases c_number h hl hh with ⟨q4, e, t', q1, q2⟩ | ⟨q4, q5, e, t', q1, q2⟩ | ⟨q4, q5, q6, q7, q8⟩
  · obtain ⟨m', em, hm⟩ := m_cannot h.2.2.2.2.2 k1.2.2.1
    rw [if_neg (show ¬ m.1 4 = 5 by omega)] at hm
    refine ⟨lo, m', by rw [if_neg q4, em]; rfl, Or.inr ⟨e, t', 2, m.1 5, q1, q2, Or.inl hm⟩⟩
  · obtain ⟨m', em, hm, -⟩ := m_wrong h.2.2.2.2.2 5
    refine ⟨lo, m', ?_, Or.inr ⟨e, t', 5, m.1 5, q1, q2, Or.inl hm⟩⟩
    rw [if_pos q4, (k2 (by omega)).1, em]
    by_cases z : m.1 7 < lo
    · rw [if_pos z]; rfl
    · rw [if_neg z, if_neg (by omega)]; rfl
  · obtain ⟨m', n1, n2, n3⟩ := next8 h (by omega) hc
    refine ⟨m.1 7, m', by rw [if_pos q4, (k2 (by omega)).1, if_neg (by omega), if_pos q6, n1]; rfl, ?_⟩
    rcases n3 with ⟨t', p1, p2⟩ | ⟨e, t', p1, p2, p3, p4, p5, p6⟩
    · exact Or.inl ⟨t', q7 t' p1, p2, q5, q6⟩
    · exact Or.inr ⟨e, t', 1, m'.1 5, q8 e t' p2.1 p1, p2, Or.inr ⟨rfl, p4, p3, rfl, n2⟩⟩

/-! THE TWIN: a wording's segments are copied -/
theorem m_w83 {m : Mu} {w n : Nat} (hw : 1 ≤ w ∧ w ≤ 13) (hn : n ≤ 12) (h19 : m.2 19 0 = (n : Int)) : ∃ m', m5_wording_l83 w NN 0 m = some m' ∧ mpl w [21, 22] m m' ∧ ∀ j, j < n → m'.2 21 (12 * w + j) = m.2 21 j ∧ m'.2 22 (12 * w + j) = m.2 22 j := by
  obtain ⟨m', e1, e2, e3, -, -⟩ := cp_loop (F := m5_wording_l83 w) (T := [21, 22]) (ks := [21, 22]) (m := m) (w := w) (n := n) (V := fun k i => m.2 k i) (by decide) (fun k hk => ⟨hk, by simp only [List.mem_cons, List.not_mem_nil, or_false] at hk; rcases hk with rfl | rfl <;> exact hn⟩) (fun f i t hi hP => by
    have q19 : t.2 19 0 = (n : Int) := by rw [hP.2.1 19 (by decide)]; exact h19
    have q21 : t.2 21 i = m.2 21 i := hP.2.2 21 i (Or.inl (by show i < 12 * w; omega))
    have q22 : t.2 22 i = m.2 22 i := hP.2.2 22 i (Or.inl (by show i < 12 * w; omega))
    rw [m5_wording_l83.eq_2, mald_e (i := 0) 0 rfl (by omega) (by omega), Option.bind_some, q19, w32_n (by omega), w32_n (by omega), if_neg (by omega), mald_e i rfl (by omega) (by omega), Option.bind_some, q21, mast_e (12 * w + i) (by omega) (by omega) (by omega), Option.bind_some, mald_e i rfl (by omega) (by omega), ma_o (by decide), Option.bind_some, q22, mast_e (12 * w + i) (by omega) (by omega) (by omega), Option.bind_some]
    rfl) (fun f t hP => by
    have q19 : t.2 19 0 = (n : Int) := by rw [hP.2.1 19 (by decide)]; exact h19
    rw [m5_wording_l83.eq_2, mald_e (i := 0) 0 rfl (by omega) (by omega), Option.bind_some, q19, w32_n (by omega), if_pos (by omega)]) (by omega)
  exact ⟨m', e1, e2, fun j hj => ⟨e3 21 (by decide) j hj, e3 22 (by decide) j hj⟩⟩
theorem m_w212 {m : Mu} {w n : Nat} (hw : 1 ≤ w ∧ w ≤ 13) (hn : n ≤ 24) (h27 : m.2 27 0 = (n : Int)) : ∃ m', m5_wording_l212 w NN 0 m = some m' ∧ mpl w [30, 31] m m' ∧ ∀ j, j < n → m'.2 30 (24 * w + j) = m.2 30 j ∧ m'.2 31 (24 * w + j) = m.2 31 j := by
  obtain ⟨m', e1, e2, e3, -, -⟩ := cp_loop (F := m5_wording_l212 w) (T := [30, 31]) (ks := [30, 31]) (m := m) (w := w) (n := n) (V := fun k i => m.2 k i) (by decide) (fun k hk => ⟨hk, by simp only [List.mem_cons, List.not_mem_nil, or_false] at hk; rcases hk with rfl | rfl <;> exact hn⟩) (fun f i t hi hP => by
    have q27 : t.2 27 0 = (n : Int) := by rw [hP.2.1 27 (by decide)]; exact h27
    have q30 : t.2 30 i = m.2 30 i := hP.2.2 30 i (Or.inl (by show i < 24 * w; omega))
    have q31 : t.2 31 i = m.2 31 i := hP.2.2 31 i (Or.inl (by show i < 24 * w; omega))
    rw [m5_wording_l212.eq_2, mald_e (i := 0) 0 rfl (by omega) (by omega), Option.bind_some, q27, w32_n (by omega), w32_n (by omega), if_neg (by omega), mald_e i rfl (by omega) (by omega), Option.bind_some, q30, mast_e (24 * w + i) (by omega) (by omega) (by omega), Option.bind_some, mald_e i rfl (by omega) (by omega), ma_o (by decide), Option.bind_some, q31, mast_e (24 * w + i) (by omega) (by omega) (by omega), Option.bind_some]
    rfl) (fun f t hP => by
    have q27 : t.2 27 0 = (n : Int) := by rw [hP.2.1 27 (by decide)]; exact h27
    rw [m5_wording_l212.eq_2, mald_e (i := 0) 0 rfl (by omega) (by omega), Option.bind_some, q27, w32_n (by omega), if_pos (by omega)]) (by omega)
  exact ⟨m', e1, e2, fun j hj => ⟨e3 30 (by decide) j hj, e3 31 (by decide) j hj⟩⟩
theorem m_w145 {m : Mu} {w n : Nat} (hw : 1 ≤ w ∧ w ≤ 13) (hn : n ≤ 24) (h56 : m.1 56 = (n : Int)) : ∃ m', m5_wording_l145 w NN 0 m = some m' ∧ mpl w [24, 25, 26] m m' ∧ ∀ j, j < n → m'.2 24 (24 * w + j) = m.2 53 j ∧ m'.2 25 (24 * w + j) = m.2 54 j ∧ m'.2 26 (24 * w + j) = m.2 55 j := by
  obtain ⟨m', e1, e2, e3, -, -⟩ := cp_loop (F := m5_wording_l145 w) (T := [24, 25, 26]) (ks := [24, 25, 26]) (m := m) (w := w) (n := n) (V := fun k i => m.2 (k + 29) i) (by decide) (fun k hk => ⟨hk, by simp only [List.mem_cons, List.not_mem_nil, or_false] at hk; rcases hk with rfl | rfl | rfl <;> exact hn⟩) (fun f i t hi hP => by
    have q56 : t.1 56 = (n : Int) := by rw [hP.1]; exact h56
    have q53 : t.2 53 i = m.2 53 i := by rw [hP.2.1 53 (by decide)]
    have q54 : t.2 54 i = m.2 54 i := by rw [hP.2.1 54 (by decide)]
    have q55 : t.2 55 i = m.2 55 i := by rw [hP.2.1 55 (by decide)]
    rw [m5_wording_l145.eq_2, q56, w32_n (by omega), w32_n (by omega), if_neg (by omega), mald_e i rfl (by omega) (by omega), Option.bind_some, q53, mast_e (24 * w + i) (by omega) (by omega) (by omega), Option.bind_some, mald_e i rfl (by omega) (by omega), ma_o (by decide), Option.bind_some, q54, mast_e (24 * w + i) (by omega) (by omega) (by omega), Option.bind_some, mald_e i rfl (by omega) (by omega), ma_o (by decide), ma_o (by decide), Option.bind_some, q55, mast_e (24 * w + i) (by omega) (by omega) (by omega), Option.bind_some]
    rfl) (fun f t hP => by
    have q56 : t.1 56 = (n : Int) := by rw [hP.1]; exact h56
    rw [m5_wording_l145.eq_2, q56, w32_n (by omega), if_pos (by omega)]) (by omega)
  exact ⟨m', e1, e2, fun j hj => ⟨e3 24 (by decide) j hj, e3 25 (by decide) j hj, e3 26 (by decide) j hj⟩⟩

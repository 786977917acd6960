/-! THE READER: the end: where the rows of a fact begin, on the twin's side -/
/-- the row i of starts under way: n of them, the set X; since m0 only this row -/
def FS (m0 : Mu) (i : Nat) (m : Mu) (n : Nat) (X : Int → Prop) (l : List Int) : Prop := mfq 38 (608 * i) (608 * i + 608) m0 m ∧ (∀ x, X x → x ∈ l) ∧ ∃ a : Nat → Int, (∀ j, j < n → m.2 38 (608 * i + j) = a j) ∧ SRT n a X ∧ ∀ j, j < n → 0 ≤ a j ∧ a j ≤ 1000000000
theorem FS_cg {m0 m : Mu} {i n : Nat} {X Y : Int → Prop} {l : List Int} (h : FS m0 i m n X l) (e : ∀ x, X x ↔ Y x) : FS m0 i m n Y l := by
  obtain ⟨h1, h2, a, h3, h4, h5⟩ := h
  exact ⟨h1, fun x hx => h2 x ((e x).mpr hx), a, h3, SRT_cg h4 (fun _ _ => rfl) e, h5⟩
theorem FS_ins {m0 m : Mu} {i n : Nat} {X : Int → Prop} {l : List Int} {v : Int} (hi : i < 112) (hl : l.length < 608) (h : FS m0 i m n X l) (hv : 0 ≤ v ∧ v ≤ 1000000000) (hvl : v ∈ l) : ∃ (n' : Nat) (m' : Mu), m5_insertStart i n v m = some ((n' : Int), m') ∧ FS m0 i m' n' (fun x => X x ∨ x = v) l := by
  obtain ⟨h1, h2, a, h3, h4, h5⟩ := h
  have hn := SRT_len h4 h2
  obtain ⟨n', a', m', e, f1, f2, f3, f4⟩ := m_insert hi (by omega : n < 608) h3 h4 h5 hv
  exact ⟨n', m', e, mfq_tr h1 f1, fun x hx => hx.elim (h2 x) (fun q => by rw [q]; exact hvl), a', f2, f3, f4⟩
/-- a node's parting at its value or behind it -/
def thS (lo hi sg v : Int) (s : Nat) (x : Int) : Prop := lo < x ∧ x ≤ hi ∧ x = v + s ∧ (if s = 0 then sg ≠ 2 ∧ sg ≠ 3 else sg ≠ 1 ∧ sg ≠ 4)
theorem hS_two {sg v : Int} (h : 0 ≤ sg ∧ sg ≤ 5) {s : Nat} (hs : s < 2) : (hS sg (v + s) v ≠ hS sg (v + s - 1) v) ↔ (if s = 0 then sg ≠ 2 ∧ sg ≠ 3 else sg ≠ 1 ∧ sg ≠ 4) := by
  have hsg : sg = 0 ∨ sg = 1 ∨ sg = 2 ∨ sg = 3 ∨ sg = 4 ∨ sg = 5 := by omega
  have h2 : s = 0 ∨ s = 1 := by omega
  have e1 : ¬ v - 1 = v := by omega
  have e2 : v - 1 < v := by omega
  have e3 : ¬ v < v - 1 := by omega
  have e4 : v - 1 ≤ v := by omega
  have e5 : ¬ v ≤ v - 1 := by omega
  have e6 : ¬ v + 1 = v := by omega
  have e7 : ¬ v + 1 < v := by omega
  have e8 : v < v + 1 := by omega
  have e9 : ¬ v + 1 ≤ v := by omega
  have e10 : v ≤ v + 1 := by omega
  have e11 : v + 1 - 1 = v := by omega
  have e12 : ¬ v < v := by omega
  rcases h2 with rfl | rfl <;> rcases hsg with rfl | rfl | rfl | rfl | rfl | rfl <;> simp [hS, e1, e2, e3, e4, e5, e6, e7, e8, e9, e10, e11, e12]
theorem m_126 {m0 m : Mu} {w f i k n s : Nat} {W : Wv} {X : Int → Prop} {l : List Int} (hw : slc m0 w = W) (hw13 : w ≤ 13) (hi : i = 8 * w + f) (hf : f < 8) (hk : k < 2400) (hl : l.length < 608) (hfk : 0 ≤ W 17 f ∧ W 18 f ≤ 999999999 ∧ W 17 f ≤ W 18 f) (hsg : 0 ≤ W 36 k ∧ W 36 k ≤ 5) (hval : 0 ≤ W 37 k ∧ W 37 k ≤ 999999999) (h : FS m0 i m n X l) (hs : s < 2) (hll : W 37 k + s ∈ l) (v5 : Int) (fuel : Nat) : ∃ (n' : Nat) (m' : Mu), m5_findStarts_l126 w f i v5 (2400 * w + k) (fuel + 1) n s m = m5_findStarts_l126 w f i v5 (2400 * w + k) fuel n' ((s : Int) + 1) m' ∧ FS m0 i m' n' (fun x => X x ∨ thS (W 17 f) (W 18 f) (W 36 k) (W 37 k) s x) l := by
  have hm : ∀ q, q ≠ 38 → slc m w q = W q := fun q hq => by
    rw [← hw]; funext j; unfold slc; rw [h.1.2.1 q hq]
  have e37 : mald m 37 33600 (2400 * (w : Int) + k) = some (W 37 k) := by
    rw [← hm 37 (by decide)]; exact m_sl (w := w) (k := 37) (j := k) (show k < 2400 by omega) (by show (2400 * (w : Int) + k) = ((2400 * w + k : Nat) : Int); omega) (by show 2400 * w + k < 33600; omega) (by omega)
  have e36 : mald m 36 33600 (2400 * (w : Int) + k) = some (W 36 k) := by
    rw [← hm 36 (by decide)]; exact m_sl (w := w) (k := 36) (j := k) (show k < 2400 by omega) (by show (2400 * (w : Int) + k) = ((2400 * w + k : Nat) : Int); omega) (by show 2400 * w + k < 33600; omega) (by omega)
  have e17 : mald m 17 112 (i : Int) = some (W 17 f) := by
    rw [← hm 17 (by decide)]; exact m_sl (w := w) (k := 17) (j := f) (show f < 8 by omega) (by show (i : Int) = ((8 * w + f : Nat) : Int); omega) (by show 8 * w + f < 112; omega) (by omega)
  have e18 : mald m 18 112 (i : Int) = some (W 18 f) := by
    rw [← hm 18 (by decide)]; exact m_sl (w := w) (k := 18) (j := f) (show f < 8 by omega) (by show (i : Int) = ((8 * w + f : Nat) : Int); omega) (by show 8 * w + f < 112; omega) (by omega)
  rw [m5_findStarts_l126.eq_2, if_neg (by rw [w32_n (by omega)]; omega), e37, Option.bind_some, e17, Option.bind_some, w32_id (x := W 37 k + (s : Int)) (by omega) (by omega), w32_id (x := W 17 f) (by omega) (by omega)]
  by_cases z1 : W 37 k + (s : Int) ≤ W 17 f
  · rw [if_pos z1]
    exact ⟨n, m, rfl, FS_cg h (fun x => ⟨Or.inl, fun q => q.elim id (fun q => by have := q.1; have := q.2.2.1; omega)⟩)⟩
  · rw [if_neg z1, e18, Option.bind_some, w32_id (x := W 18 f) (by omega) (by omega)]
    by_cases z2 : W 18 f < W 37 k + (s : Int)
    · rw [if_pos z2]
      exact ⟨n, m, rfl, FS_cg h (fun x => ⟨Or.inl, fun q => q.elim id (fun q => by have := q.2.1; have := q.2.2.1; omega)⟩)⟩
    · rw [if_neg z2, e36, Option.bind_some, Option.bind_some, m_sign (w32_id (by omega) (by omega)) (w32_id (by omega) (by omega)) (w32_id (by omega) (by omega)), Option.bind_some, Option.bind_some, Option.bind_some, m_sign (w32_id (by omega) (by omega)) (w32_id (by omega) (by omega)) (w32_id (by omega) (by omega)), Option.bind_some, w32_b2i, w32_b2i]
      have two := hS_two (sg := W 36 k) (v := W 37 k) hsg hs
      by_cases z3 : hS (W 36 k) (W 37 k + s) (W 37 k) = hS (W 36 k) (W 37 k + s - 1) (W 37 k)
      · rw [if_pos (by rw [z3])]
        exact ⟨n, m, rfl, FS_cg h (fun x => ⟨Or.inl, fun q => q.elim id (fun q => absurd z3 (two.mpr q.2.2.2))⟩)⟩
      · rw [if_neg (fun q => z3 (by revert q; cases hS (W 36 k) (W 37 k + s) (W 37 k) <;> cases hS (W 36 k) (W 37 k + s - 1) (W 37 k) <;> simp [b2i]))]
        obtain ⟨n', m', e, h'⟩ := FS_ins (i := i) (v := W 37 k + s) (by omega) hl h (by omega) hll
        rw [e, Option.bind_some]
        refine ⟨n', m', rfl, FS_cg h' (fun x => ⟨fun q => q.imp id (fun q => ⟨by omega, by omega, q, two.mp z3⟩), fun q => q.imp id (fun q => q.2.2.1)⟩)⟩

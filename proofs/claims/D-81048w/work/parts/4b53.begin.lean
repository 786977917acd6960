/-! THE READER: the twin's beginning -/
/-- only the place w of the wordings' arrays has changed -/
def mpl (w : Nat) (T : List Nat) (m m' : Mu) : Prop := m'.1 = m.1 ∧ (∀ k, k ∉ T → m'.2 k = m.2 k) ∧ ∀ k j, (j < wid k * w ∨ wid k * w + wid k ≤ j) → m'.2 k j = m.2 k j
theorem mpl_rf {w : Nat} {T : List Nat} {m : Mu} : mpl w T m m := ⟨rfl, fun _ _ => rfl, fun _ _ _ => rfl⟩
theorem mpl_tr {w : Nat} {T : List Nat} {a b c : Mu} (h : mpl w T a b) (k : mpl w T b c) : mpl w T a c := ⟨k.1.trans h.1, fun j hj => (k.2.1 j hj).trans (h.2.1 j hj), fun j i hi => (k.2.2 j i hi).trans (h.2.2 j i hi)⟩
theorem mpl_ma {w : Nat} {T : List Nat} {m t : Mu} {k i : Nat} {v : Int} (h : mpl w T m t) (hk : k ∈ T) (h1 : wid k * w ≤ i) (h2 : i < wid k * w + wid k) : mpl w T m (ma t k i v) := by
  refine ⟨h.1, fun j hj => ?_, fun j b hb => ?_⟩
  · rw [ma_o (fun e => hj (by rw [e]; exact hk))]; exact h.2.1 j hj
  · rw [ma_2]
    by_cases z : j = k
    · subst z
      rw [if_pos rfl, up_o (by omega)]; exact h.2.2 j b hb
    · rw [if_neg z]; exact h.2.2 j b hb
theorem mpl_slc {w v : Nat} {T : List Nat} {m m' : Mu} (h : mpl w T m m') (hv : v ≠ w) : slc m' v = slc m v := by
  funext k j
  unfold slc
  by_cases z : j < wid k
  · rw [if_pos z, if_pos z]
    refine h.2.2 k _ ?_
    rcases Nat.lt_or_gt_of_ne hv with q | q
    · left
      have : wid k * (v + 1) ≤ wid k * w := Nat.mul_le_mul_left _ (by omega)
      rw [Nat.mul_add] at this; omega
    · right
      have : wid k * (w + 1) ≤ wid k * v := Nat.mul_le_mul_left _ (by omega)
      rw [Nat.mul_add] at this; omega
  · rw [if_neg z, if_neg z]
theorem mpl_up {w : Nat} {T T' : List Nat} {m m' : Mu} (h : mpl w T m m') (hT : ∀ k ∈ T, k ∈ T') : mpl w T' m m' := ⟨h.1, fun k hk => h.2.1 k (fun q => hk (hT k q)), h.2.2⟩
theorem slc_1 {m : Mu} {w k : Nat} (hk : wid k = 1) : slc m w k 0 = m.2 k w := by
  unfold slc; rw [hk, if_pos (by omega), Nat.one_mul, Nat.add_zero]
theorem m_clear {m : Mu} {w : Nat} (hw : w ≤ 13) : ∃ m', m5_clear w m = some m' ∧ mpl w [12, 19, 23, 27, 32, 33] m m' ∧ (m'.2 12 w = 0 ∧ m'.2 19 w = 0 ∧ m'.2 23 w = 0 ∧ m'.2 27 w = 0 ∧ m'.2 33 w = 0) ∧ ∀ k, k < 5 → m'.2 32 (5 * w + k) = -3 := by
  unfold m5_clear
  rw [mast_e w rfl (by omega) (by omega), Option.bind_some, mast_e w rfl (by omega) (by omega), Option.bind_some, mast_e w rfl (by omega) (by omega), Option.bind_some, mast_e w rfl (by omega) (by omega), Option.bind_some, mast_e w rfl (by omega) (by omega), Option.bind_some]
  obtain ⟨m5, h5⟩ : ∃ m5, m5 = ma (ma (ma (ma (ma m 12 w 0) 19 w 0) 23 w 0) 27 w 0) 33 w 0 := ⟨_, rfl⟩
  rw [← h5]
  have P5 : mpl w [12, 19, 23, 27, 32, 33] m m5 := by
    rw [h5]
    have hk : ∀ k, wid k = 1 → wid k * w ≤ w ∧ w < wid k * w + wid k := fun k q => by rw [q]; omega
    exact mpl_ma (mpl_ma (mpl_ma (mpl_ma (mpl_ma mpl_rf (by decide) (hk 12 rfl).1 (hk 12 rfl).2) (by decide) (hk 19 rfl).1 (hk 19 rfl).2) (by decide) (hk 23 rfl).1 (hk 23 rfl).2) (by decide) (hk 27 rfl).1 (hk 27 rfl).2) (by decide) (hk 33 rfl).1 (hk 33 rfl).2
  have V5 : m5.2 12 w = 0 ∧ m5.2 19 w = 0 ∧ m5.2 23 w = 0 ∧ m5.2 27 w = 0 ∧ m5.2 33 w = 0 := by
    rw [h5]
    refine ⟨?_, ?_, ?_, ?_, ?_⟩
    · rw [ma_o (by decide), ma_o (by decide), ma_o (by decide), ma_o (by decide), ma_s, if_pos rfl]
    · rw [ma_o (by decide), ma_o (by decide), ma_o (by decide), ma_s, if_pos rfl]
    · rw [ma_o (by decide), ma_o (by decide), ma_s, if_pos rfl]
    · rw [ma_o (by decide), ma_s, if_pos rfl]
    · rw [ma_s, if_pos rfl]
  have key : ∀ (d f k : Nat) (t : Mu), k + d = 5 → d < f → mpl w [12, 19, 23, 27, 32, 33] m t → (t.2 12 w = 0 ∧ t.2 19 w = 0 ∧ t.2 23 w = 0 ∧ t.2 27 w = 0 ∧ t.2 33 w = 0) → (∀ j, j < k → t.2 32 (5 * w + j) = -3) → ∃ m', m5_clear_l37 w f k t = some m' ∧ mpl w [12, 19, 23, 27, 32, 33] m m' ∧ (m'.2 12 w = 0 ∧ m'.2 19 w = 0 ∧ m'.2 23 w = 0 ∧ m'.2 27 w = 0 ∧ m'.2 33 w = 0) ∧ ∀ k, k < 5 → m'.2 32 (5 * w + k) = -3 := by
    intro d
    induction d with
    | zero =>
      intro f k t hk hf hP hV h32
      obtain ⟨f, rfl⟩ : ∃ g, f = g + 1 := ⟨f - 1, by omega⟩
      refine ⟨t, ?_, hP, hV, fun j hj => h32 j (by omega)⟩
      unfold m5_clear_l37
      rw [w32_n (by omega), if_pos (by omega)]
    | succ d ih =>
      intro f k t hk hf hP hV h32
      obtain ⟨f, rfl⟩ : ∃ g, f = g + 1 := ⟨f - 1, by omega⟩
      unfold m5_clear_l37
      rw [w32_n (by omega), if_neg (by omega), mast_e (5 * w + k) (by omega) (by omega) (by omega), Option.bind_some]
      refine ih f (k + 1) _ (by omega) (by omega) (mpl_ma hP (by decide) (by show 5 * w ≤ _; omega) (by show _ < 5 * w + 5; omega)) ?_ (fun j hj => ?_)
      · rw [ma_o (by decide), ma_o (by decide), ma_o (by decide), ma_o (by decide), ma_o (by decide)]; exact hV
      · rw [ma_s]
        by_cases z : 5 * w + j = 5 * w + k
        · rw [if_pos z]
        · rw [if_neg z]; exact h32 j (by omega)
  obtain ⟨m', e1, e2, e3, e4⟩ := key 5 NN 0 m5 rfl (NN_gt (by omega)) P5 V5 (fun j hj => by omega)
  have e1' : m5_clear_l37 w NN 0 m5 = some m' := e1
  exact ⟨m', by rw [e1']; rfl, e2, e3, e4⟩

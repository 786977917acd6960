/-! STARTS: the twin's rows -/
/-- since m only the places lo .. hi of the array k have changed -/
def mfq (k lo hi : Nat) (m m' : Mu) : Prop := m'.1 = m.1 ∧ (∀ j, j ≠ k → m'.2 j = m.2 j) ∧ ∀ x, (x < lo ∨ hi ≤ x) → m'.2 k x = m.2 k x
theorem mfq_rf {k lo hi : Nat} {m : Mu} : mfq k lo hi m m := ⟨rfl, fun _ _ => rfl, fun _ _ => rfl⟩
theorem mfq_tr {k lo hi : Nat} {a b c : Mu} (h : mfq k lo hi a b) (h2 : mfq k lo hi b c) : mfq k lo hi a c := ⟨h2.1.trans h.1, fun j hj => (h2.2.1 j hj).trans (h.2.1 j hj), fun x hx => (h2.2.2 x hx).trans (h.2.2 x hx)⟩
theorem mfq_ma {k lo hi : Nat} {m t : Mu} {i : Nat} {v : Int} (h : mfq k lo hi m t) (h1 : lo ≤ i) (h2 : i < hi) : mfq k lo hi m (ma t k i v) :=
  ⟨h.1, fun j hj => by rw [ma_o hj]; exact h.2.1 j hj, fun x hx => by rw [ma_s, if_neg (by omega)]; exact h.2.2 x hx⟩
theorem m_find_s {m : Mu} {i n : Nat} {a : Nat → Int} {X : Int → Prop} {v w : Int} (hi : i < 112) (hn : n ≤ 608) (hT : ∀ j, j < n → m.2 38 (608 * i + j) = a j) (hS : SRT n a X) (hb : ∀ j, j < n → 0 ≤ a j ∧ a j ≤ 1000000000) (hv : 0 ≤ v ∧ v ≤ 1000000000) : ∃ j : Nat, m5_insertStart_l3 i w v m NN n = some (j : Int) ∧ j ≤ n ∧ (∀ x, x < j → a x < v) ∧ ∀ x, j ≤ x → x < n → v ≤ a x := by
  have key := loop_ind (fun q (j : Nat) => m5_insertStart_l3 i w v m q (j : Int)) (fun j => j) (fun j => j ≤ n ∧ ∀ x, j ≤ x → x < n → v ≤ a x) (fun _ r => ∃ j : Nat, r = (j : Int) ∧ j ≤ n ∧ (∀ x, x < j → a x < v) ∧ ∀ x, j ≤ x → x < n → v ≤ a x) (by
    intro q j ⟨j1, j2⟩ ih
    show ok (m5_insertStart_l3 i w v m (q + 1) (j : Int)) _
    unfold m5_insertStart_l3
    rw [w32_n (by omega)]
    refine ok_ite (fun z => ok_some ⟨j, rfl, j1, fun x hx => by omega, j2⟩) (fun z => ?_)
    have b := hb (j - 1) (by omega)
    refine ok_mald (608 * i + (j - 1)) (by omega) (by omega) (by omega) ?_
    rw [hT (j - 1) (by omega), w32_id (x := a (j - 1)) (by omega) (by omega), w32_id (x := v) (by omega) (by omega)]
    refine ok_ite (fun y => ok_some ⟨j, rfl, j1, fun x hx => ?_, j2⟩) (fun y => ?_)
    · have := SRT_le hS (show x ≤ j - 1 by omega) (by omega); omega
    · rw [show (j : Int) + (-1) = ((j - 1 : Nat) : Int) by omega]
      refine ih (j - 1) ⟨by omega, fun x h1 h2 => ?_⟩ (by omega)
      by_cases hx : x = j - 1
      · rw [hx]; omega
      · exact j2 x (by omega) h2) NN n ⟨Nat.le_refl _, fun x h1 h2 => by omega⟩ (NN_gt (by omega))
  obtain ⟨r, e, j, rfl, k⟩ := key
  exact ⟨j, e, k⟩
theorem m_shift_s {m : Mu} {i n j : Nat} {a : Nat → Int} {v w : Int} (hi : i < 112) (hn : n < 608) (hj : j ≤ n) (hT : ∀ x, x < n → m.2 38 (608 * i + x) = a x) : ∃ m', m5_insertStart_l61 i w v j NN n m = some m' ∧ mfq 38 (608 * i) (608 * i + 608) m m' ∧ (∀ x, x < j → m'.2 38 (608 * i + x) = a x) ∧ ∀ x, j ≤ x → x < n → m'.2 38 (608 * i + (x + 1)) = a x := by
  have key := loop_ind (fun q (s : Nat × Mu) => m5_insertStart_l61 i w v j q (s.1 : Int) s.2) (fun s => s.1) (fun s => j ≤ s.1 ∧ s.1 ≤ n ∧ mfq 38 (608 * i) (608 * i + 608) m s.2 ∧ (∀ x, x < s.1 → s.2.2 38 (608 * i + x) = a x) ∧ ∀ x, s.1 ≤ x → x < n → s.2.2 38 (608 * i + (x + 1)) = a x) (fun _ r => mfq 38 (608 * i) (608 * i + 608) m r ∧ (∀ x, x < j → r.2 38 (608 * i + x) = a x) ∧ ∀ x, j ≤ x → x < n → r.2 38 (608 * i + (x + 1)) = a x) (by
    rintro q ⟨k, t⟩ ⟨k1, k2, k3, k4, k5⟩ ih
    dsimp only at k1 k2 k3 k4 k5 ⊢
    show ok (m5_insertStart_l61 i w v j (q + 1) (k : Int) t) _
    unfold m5_insertStart_l61
    rw [w32_n (by omega), w32_n (by omega)]
    refine ok_ite (fun z => ok_some ?_) (fun z => ?_)
    · rw [show k = j by omega] at k4 k5
      exact ⟨k3, k4, k5⟩
    refine ok_mald (608 * i + (k - 1)) (by omega) (by omega) (by omega) (ok_mast (608 * i + k) (by omega) (by omega) (by omega) ?_)
    rw [k4 (k - 1) (by omega), show (k : Int) + (-1) = ((k - 1 : Nat) : Int) by omega]
    refine ih (k - 1, ma t 38 (608 * i + k) (a (k - 1))) ⟨by show j ≤ k - 1; omega, by show k - 1 ≤ n; omega, mfq_ma k3 (by omega) (by omega), fun x hx => ?_, fun x h1 h2 => ?_⟩ (by show k - 1 < k; omega)
    · dsimp only at hx ⊢
      rw [ma_s, if_neg (by omega)]; exact k4 x (by omega)
    · dsimp only at h1 ⊢
      rw [ma_s]
      by_cases y : x + 1 = k
      · rw [if_pos (by omega), show k - 1 = x by omega]
      · rw [if_neg (by omega)]; exact k5 x (by omega) h2) NN (n, m) ⟨hj, Nat.le_refl _, mfq_rf, hT, fun x h1 h2 => by dsimp only at h1; omega⟩ (NN_gt (by show n < 100000; omega))
  obtain ⟨r, e, k⟩ := key
  exact ⟨r, e, k⟩
theorem m_find_b {m : Mu} {i n : Nat} {a : Nat → Int} {X : Int → Prop} {v w : Int} (hi : i < 8) (hn : n ≤ 2000) (hT : ∀ j, j < n → m.2 63 (2000 * i + j) = a j) (hS : SRT n a X) (hb : ∀ j, j < n → 0 ≤ a j ∧ a j ≤ 1000000000) (hv : 0 ≤ v ∧ v ≤ 1000000000) : ∃ j : Nat, m5_putBoth_l10 i v w m NN n = some (j : Int) ∧ j ≤ n ∧ (∀ x, x < j → a x < v) ∧ ∀ x, j ≤ x → x < n → v ≤ a x := by
  have key := loop_ind (fun q (j : Nat) => m5_putBoth_l10 i v w m q (j : Int)) (fun j => j) (fun j => j ≤ n ∧ ∀ x, j ≤ x → x < n → v ≤ a x) (fun _ r => ∃ j : Nat, r = (j : Int) ∧ j ≤ n ∧ (∀ x, x < j → a x < v) ∧ ∀ x, j ≤ x → x < n → v ≤ a x) (by
    intro q j ⟨j1, j2⟩ ih
    show ok (m5_putBoth_l10 i v w m (q + 1) (j : Int)) _
    unfold m5_putBoth_l10
    rw [w32_n (by omega)]
    refine ok_ite (fun z => ok_some ⟨j, rfl, j1, fun x hx => by omega, j2⟩) (fun z => ?_)
    have b := hb (j - 1) (by omega)
    refine ok_mald (2000 * i + (j - 1)) (by omega) (by omega) (by omega) ?_
    rw [hT (j - 1) (by omega), w32_id (x := a (j - 1)) (by omega) (by omega), w32_id (x := v) (by omega) (by omega)]
    refine ok_ite (fun y => ok_some ⟨j, rfl, j1, fun x hx => ?_, j2⟩) (fun y => ?_)
    · have := SRT_le hS (show x ≤ j - 1 by omega) (by omega); omega
    · rw [show (j : Int) + (-1) = ((j - 1 : Nat) : Int) by omega]
      refine ih (j - 1) ⟨by omega, fun x h1 h2 => ?_⟩ (by omega)
      by_cases hx : x = j - 1
      · rw [hx]; omega
      · exact j2 x (by omega) h2) NN n ⟨Nat.le_refl _, fun x h1 h2 => by omega⟩ (NN_gt (by omega))
  obtain ⟨r, e, j, rfl, k⟩ := key
  exact ⟨j, e, k⟩
theorem m_shift_b {m : Mu} {i n j : Nat} {a : Nat → Int} {v w : Int} (hi : i < 8) (hn : n < 2000) (hj : j ≤ n) (hT : ∀ x, x < n → m.2 63 (2000 * i + x) = a x) : ∃ m', m5_putBoth_l67 i v j NN n m = some m' ∧ mfq 63 (2000 * i) (2000 * i + 2000) m m' ∧ (∀ x, x < j → m'.2 63 (2000 * i + x) = a x) ∧ ∀ x, j ≤ x → x < n → m'.2 63 (2000 * i + (x + 1)) = a x := by
  have key := loop_ind (fun q (s : Nat × Mu) => m5_putBoth_l67 i v j q (s.1 : Int) s.2) (fun s => s.1) (fun s => j ≤ s.1 ∧ s.1 ≤ n ∧ mfq 63 (2000 * i) (2000 * i + 2000) m s.2 ∧ (∀ x, x < s.1 → s.2.2 63 (2000 * i + x) = a x) ∧ ∀ x, s.1 ≤ x → x < n → s.2.2 63 (2000 * i + (x + 1)) = a x) (fun _ r => mfq 63 (2000 * i) (2000 * i + 2000) m r ∧ (∀ x, x < j → r.2 63 (2000 * i + x) = a x) ∧ ∀ x, j ≤ x → x < n → r.2 63 (2000 * i + (x + 1)) = a x) (by
    rintro q ⟨k, t⟩ ⟨k1, k2, k3, k4, k5⟩ ih
    dsimp only at k1 k2 k3 k4 k5 ⊢
    show ok (m5_putBoth_l67 i v j (q + 1) (k : Int) t) _
    unfold m5_putBoth_l67
    rw [w32_n (by omega), w32_n (by omega)]
    refine ok_ite (fun z => ok_some ?_) (fun z => ?_)
    · rw [show k = j by omega] at k4 k5
      exact ⟨k3, k4, k5⟩
    refine ok_mald (2000 * i + (k - 1)) (by omega) (by omega) (by omega) (ok_mast (2000 * i + k) (by omega) (by omega) (by omega) ?_)
    rw [k4 (k - 1) (by omega), show (k : Int) + (-1) = ((k - 1 : Nat) : Int) by omega]
    refine ih (k - 1, ma t 63 (2000 * i + k) (a (k - 1))) ⟨by show j ≤ k - 1; omega, by show k - 1 ≤ n; omega, mfq_ma k3 (by omega) (by omega), fun x hx => ?_, fun x h1 h2 => ?_⟩ (by show k - 1 < k; omega)
    · dsimp only at hx ⊢
      rw [ma_s, if_neg (by omega)]; exact k4 x (by omega)
    · dsimp only at h1 ⊢
      rw [ma_s]
      by_cases y : x + 1 = k
      · rw [if_pos (by omega), show k - 1 = x by omega]
      · rw [if_neg (by omega)]; exact k5 x (by omega) h2) NN (n, m) ⟨hj, Nat.le_refl _, mfq_rf, hT, fun x h1 h2 => by dsimp only at h1; omega⟩ (NN_gt (by show n < 100000; omega))
  obtain ⟨r, e, k⟩ := key
  exact ⟨r, e, k⟩
theorem m_insert {m : Mu} {i n : Nat} {a : Nat → Int} {X : Int → Prop} {v : Int} (hi : i < 112) (hn : n < 608) (hT : ∀ j, j < n → m.2 38 (608 * i + j) = a j) (hS : SRT n a X) (hb : ∀ j, j < n → 0 ≤ a j ∧ a j ≤ 1000000000) (hv : 0 ≤ v ∧ v ≤ 1000000000) : ∃ (n' : Nat) (a' : Nat → Int) (m' : Mu), m5_insertStart i n v m = some ((n' : Int), m') ∧ mfq 38 (608 * i) (608 * i + 608) m m' ∧ (∀ j, j < n' → m'.2 38 (608 * i + j) = a' j) ∧ SRT n' a' (fun x => X x ∨ x = v) ∧ (∀ j, j < n' → 0 ≤ a' j ∧ a' j ≤ 1000000000) := by
  obtain ⟨j, e1, j1, j2, j3⟩ := m_find_s (w := (n : Int)) hi (by omega) hT hS hb hv
  have ins : (∀ x, j ≤ x → x < n → v < a x) → ∃ (n' : Nat) (a' : Nat → Int) (m' : Mu), m5_insertStart_b58 i n v j m = some ((n' : Int), m') ∧ mfq 38 (608 * i) (608 * i + 608) m m' ∧ (∀ j, j < n' → m'.2 38 (608 * i + j) = a' j) ∧ SRT n' a' (fun x => X x ∨ x = v) ∧ (∀ j, j < n' → 0 ≤ a' j ∧ a' j ≤ 1000000000) := by
    intro hlt
    obtain ⟨m1, e2, f2, g1, g2⟩ := m_shift_s (v := v) (w := (n : Int)) hi hn j1 hT
    refine ⟨n + 1, insA a j v, ma m1 38 (608 * i + j) v, ?_, mfq_ma f2 (by omega) (by omega), fun x hx => ?_, SRT_ins hS j1 j2 hlt, fun x hx => ?_⟩
    · unfold m5_insertStart_b58
      rw [e2, Option.bind_some, mast_e (608 * i + j) (by omega) (by omega) (by omega), Option.bind_some]
      rfl
    · rw [ma_s]
      unfold insA
      by_cases y1 : x < j
      · rw [if_neg (by omega), if_pos y1]; exact g1 x y1
      · rw [if_neg y1]
        by_cases y2 : x = j
        · rw [if_pos (by omega), if_pos y2]
        · rw [if_neg (by omega), if_neg y2]
          have := g2 (x - 1) (by omega) (by omega)
          rw [show x - 1 + 1 = x by omega] at this
          exact this
    · unfold insA
      by_cases y1 : x < j
      · rw [if_pos y1]; exact hb x (by omega)
      · rw [if_neg y1]
        by_cases y2 : x = j
        · rw [if_pos y2]; exact hv
        · rw [if_neg y2]; exact hb (x - 1) (by omega)
  have goal : ∃ (n' : Nat) (a' : Nat → Int) (m' : Mu), m5_insertStart_b33 i n v j m = some ((n' : Int), m') ∧ mfq 38 (608 * i) (608 * i + 608) m m' ∧ (∀ j, j < n' → m'.2 38 (608 * i + j) = a' j) ∧ SRT n' a' (fun x => X x ∨ x = v) ∧ (∀ j, j < n' → 0 ≤ a' j ∧ a' j ≤ 1000000000) := by
    unfold m5_insertStart_b33
    rw [w32_n (by omega), w32_n (by omega)]
    by_cases q1 : (n : Int) ≤ (j : Int)
    · rw [if_pos q1]
      exact ins (fun x h1 h2 => by omega)
    · have b := hb j (by omega)
      rw [if_neg q1, mald_e (608 * i + j) (by omega) (by omega) (by omega), Option.bind_some, hT j (by omega), w32_id (x := a j) (by omega) (by omega), w32_id (x := v) (by omega) (by omega)]
      by_cases q2 : a j = v
      · rw [if_pos q2]
        exact ⟨n, a, m, rfl, mfq_rf, hT, SRT_cg hS (fun _ _ => rfl) (fun x => ⟨Or.inl, fun z => z.elim id (fun z => by rw [z, ← q2]; exact (hS.2 _).mpr ⟨j, by omega, rfl⟩)⟩), hb⟩
      · rw [if_neg q2]
        refine ins (fun x h1 h2 => ?_)
        have := j3 j (Nat.le_refl _) (by omega)
        have := SRT_le hS h1 h2
        omega
  obtain ⟨n', a', m', e, k⟩ := goal
  refine ⟨n', a', m', ?_, k⟩
  unfold m5_insertStart
  rw [e1, Option.bind_some]
  exact e
theorem m_putB {m : Mu} {i n : Nat} {a : Nat → Int} {X : Int → Prop} {v : Int} (hi : i < 8) (hn : n < 2000) (hc : m.2 64 i = (n : Int)) (hT : ∀ j, j < n → m.2 63 (2000 * i + j) = a j) (hS : SRT n a X) (hb : ∀ j, j < n → 0 ≤ a j ∧ a j ≤ 1000000000) (hv : 0 ≤ v ∧ v ≤ 1000000000) : ∃ (n' : Nat) (a' : Nat → Int) (m' : Mu), m5_putBoth i v m = some m' ∧ mfr [] [63, 64] m m' ∧ (∀ x, (x < 2000 * i ∨ 2000 * i + 2000 ≤ x) → m'.2 63 x = m.2 63 x) ∧ (∀ x, x ≠ i → m'.2 64 x = m.2 64 x) ∧ m'.2 64 i = (n' : Int) ∧ (∀ j, j < n' → m'.2 63 (2000 * i + j) = a' j) ∧ SRT n' a' (fun x => X x ∨ x = v) ∧ (∀ j, j < n' → 0 ≤ a' j ∧ a' j ≤ 1000000000) := by
  obtain ⟨j, e1, j1, j2, j3⟩ := m_find_b (w := (n : Int)) hi (by omega) hT hS hb hv
  have ins : (∀ x, j ≤ x → x < n → v < a x) → ∃ (n' : Nat) (a' : Nat → Int) (m' : Mu), m5_putBoth_b64 i v n j m = some m' ∧ mfr [] [63, 64] m m' ∧ (∀ x, (x < 2000 * i ∨ 2000 * i + 2000 ≤ x) → m'.2 63 x = m.2 63 x) ∧ (∀ x, x ≠ i → m'.2 64 x = m.2 64 x) ∧ m'.2 64 i = (n' : Int) ∧ (∀ j, j < n' → m'.2 63 (2000 * i + j) = a' j) ∧ SRT n' a' (fun x => X x ∨ x = v) ∧ (∀ j, j < n' → 0 ≤ a' j ∧ a' j ≤ 1000000000) := by
    intro hlt
    obtain ⟨m1, e2, f2, g1, g2⟩ := m_shift_b (v := v) (w := (n : Int)) hi hn j1 hT
    have f3 := mfq_ma (i := 2000 * i + j) (v := v) f2 (by omega) (by omega)
    refine ⟨n + 1, insA a j v, ma (ma m1 63 (2000 * i + j) v) 64 i ((n : Int) + 1), ?_, ⟨fun k _ => by rw [ma_1, ma_1, f2.1], fun k hk => ?_⟩, fun x hx => ?_, fun x hx => ?_, ?_, fun x hx => ?_, SRT_ins hS j1 j2 hlt, fun x hx => ?_⟩
    · unfold m5_putBoth_b64
      rw [e2, Option.bind_some, mast_e (2000 * i + j) (by omega) (by omega) (by omega), Option.bind_some, mald_e i rfl (by omega) (by omega), Option.bind_some, ma_o (show 64 ≠ 63 by decide), f2.2.1 64 (by decide), hc, mast_e i rfl (by omega) (by omega), Option.bind_some]
    · simp at hk
      rw [ma_o hk.2, ma_o hk.1, f2.2.1 k hk.1]
    · rw [ma_o (by decide)]; exact f3.2.2 x hx
    · rw [ma_s, if_neg hx, ma_o (by decide), f2.2.1 64 (by decide)]
    · rw [ma_s, if_pos rfl]; omega
    · rw [ma_o (by decide), ma_s]
      unfold insA
      by_cases y1 : x < j
      · rw [if_neg (by omega), if_pos y1]; exact g1 x y1
      · rw [if_neg y1]
        by_cases y2 : x = j
        · rw [if_pos (by omega), if_pos y2]
        · rw [if_neg (by omega), if_neg y2]
          have := g2 (x - 1) (by omega) (by omega)
          rw [show x - 1 + 1 = x by omega] at this
          exact this
    · unfold insA
      by_cases y1 : x < j
      · rw [if_pos y1]; exact hb x (by omega)
      · rw [if_neg y1]
        by_cases y2 : x = j
        · rw [if_pos y2]; exact hv
        · rw [if_neg y2]; exact hb (x - 1) (by omega)
  have goal : ∃ (n' : Nat) (a' : Nat → Int) (m' : Mu), m5_putBoth_b40 i v n j m = some m' ∧ mfr [] [63, 64] m m' ∧ (∀ x, (x < 2000 * i ∨ 2000 * i + 2000 ≤ x) → m'.2 63 x = m.2 63 x) ∧ (∀ x, x ≠ i → m'.2 64 x = m.2 64 x) ∧ m'.2 64 i = (n' : Int) ∧ (∀ j, j < n' → m'.2 63 (2000 * i + j) = a' j) ∧ SRT n' a' (fun x => X x ∨ x = v) ∧ (∀ j, j < n' → 0 ≤ a' j ∧ a' j ≤ 1000000000) := by
    unfold m5_putBoth_b40
    rw [w32_n (by omega), w32_n (by omega)]
    by_cases q1 : (n : Int) ≤ (j : Int)
    · rw [if_pos q1]
      exact ins (fun x h1 h2 => by omega)
    · have b := hb j (by omega)
      rw [if_neg q1, mald_e (2000 * i + j) (by omega) (by omega) (by omega), Option.bind_some, hT j (by omega), w32_id (x := a j) (by omega) (by omega), w32_id (x := v) (by omega) (by omega)]
      by_cases q2 : a j = v
      · rw [if_pos q2]
        exact ⟨n, a, m, rfl, mfr_rf, fun _ _ => rfl, fun _ _ => rfl, hc, hT, SRT_cg hS (fun _ _ => rfl) (fun x => ⟨Or.inl, fun z => z.elim id (fun z => by rw [z, ← q2]; exact (hS.2 _).mpr ⟨j, by omega, rfl⟩)⟩), hb⟩
      · rw [if_neg q2]
        refine ins (fun x h1 h2 => ?_)
        have := j3 j (Nat.le_refl _) (by omega)
        have := SRT_le hS h1 h2
        omega
  obtain ⟨n', a', m', e, k⟩ := goal
  refine ⟨n', a', m', ?_, k⟩
  unfold m5_putBoth
  rw [mald_e i rfl (by omega) (by omega), Option.bind_some, hc, e1, Option.bind_some]
  exact e

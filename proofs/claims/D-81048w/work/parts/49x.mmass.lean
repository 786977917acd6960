/-! MASSES: the twin's loops -/
def MZ (m t : Mu) (f g k : Nat → Int) : Prop := mfr [] [112, 113, 114] m t ∧ ∀ i, i < 1601 → t.2 112 i = f i ∧ t.2 113 i = g i ∧ t.2 114 i = k i
theorem MZ_ex {m t : Mu} {f g k f' g' k' : Nat → Int} (h : MZ m t f g k) (e : ∀ i, i < 1601 → f i = f' i ∧ g i = g' i ∧ k i = k' i) : MZ m t f' g' k' :=
  ⟨h.1, fun i hi => by rw [← (e i hi).1, ← (e i hi).2.1, ← (e i hi).2.2]; exact h.2 i hi⟩
theorem MZ_112 {m t : Mu} {f g k : Nat → Int} (h : MZ m t f g k) (j : Nat) (v : Int) : MZ m (ma t 112 j v) (va_up f j v) g k :=
  ⟨mfr_ma h.1 (by simp), fun i hi => by
    rw [ma_o (show 113 ≠ 112 by decide), ma_o (show 114 ≠ 112 by decide), ma_s, va_up_e]
    refine ⟨?_, (h.2 i hi).2⟩
    split
    · rfl
    · exact (h.2 i hi).1⟩
theorem MZ_113 {m t : Mu} {f g k : Nat → Int} (h : MZ m t f g k) (j : Nat) (v : Int) : MZ m (ma t 113 j v) f (va_up g j v) k :=
  ⟨mfr_ma h.1 (by simp), fun i hi => by
    rw [ma_o (show 112 ≠ 113 by decide), ma_o (show 114 ≠ 113 by decide), ma_s, va_up_e]
    refine ⟨(h.2 i hi).1, ?_, (h.2 i hi).2.2⟩
    split
    · rfl
    · exact (h.2 i hi).2.1⟩
theorem MZ_114 {m t : Mu} {f g k : Nat → Int} (h : MZ m t f g k) (j : Nat) (v : Int) : MZ m (ma t 114 j v) f g (va_up k j v) :=
  ⟨mfr_ma h.1 (by simp), fun i hi => by
    rw [ma_o (show 112 ≠ 114 by decide), ma_o (show 113 ≠ 114 by decide), ma_s, va_up_e]
    refine ⟨(h.2 i hi).1, (h.2 i hi).2.1, ?_⟩
    split
    · rfl
    · exact (h.2 i hi).2.2⟩
theorem up_lt {f g : Nat → Int} {i : Nat} {v : Int} (hv : v = f i) (j : Nat) : va_up (fun x => if x < i then f x else g x) i v j = if j < i + 1 then f j else g j := by
  rw [va_up_e]
  by_cases q1 : j = i
  · rw [if_pos q1, if_pos (by omega), q1, hv]
  · rw [if_neg q1]
    by_cases q2 : j < i
    · rw [if_pos q2, if_pos (by omega)]
    · rw [if_neg q2, if_neg (by omega)]
theorem m_init {m t : Mu} {f g k s : Nat → Int} (h : MZ m t f g k) : ∃ t', m5_findMasses_l15 NN 0 t = some t' ∧ MZ m t' (fun _ => 0) (cv s 0) k := by
  have key := loop_ind (fun q (s : Nat × Mu) => m5_findMasses_l15 q (s.1 : Int) s.2) (fun s => 1601 - s.1) (fun w => w.1 ≤ 1601 ∧ MZ m w.2 (fun j => if j < w.1 then (fun _ => 0) j else f j) (fun j => if j < w.1 then cv s 0 j else g j) k) (fun _ r => MZ m r (fun _ => 0) (cv s 0) k) (by
    rintro q ⟨i, t⟩ ⟨hi, ht⟩ ih
    dsimp only at hi ht ⊢
    show ok (m5_findMasses_l15 (q + 1) (i : Int) t) _
    unfold m5_findMasses_l15
    rw [w32_n (by omega)]
    refine ok_ite (fun hz => ok_some (MZ_ex ht (fun j hj => ⟨by rw [if_pos (by omega)], by rw [if_pos (by omega)], rfl⟩))) (fun hz => ?_)
    have fin : ∀ v : Int, v = cv s 0 i → ok (m5_findMasses_b36 (m5_findMasses_l15 q) (i : Int) (i : Int) v t) (fun r => MZ m r (fun _ => 0) (cv s 0) k) := by
      intro v hv
      unfold m5_findMasses_b36
      refine ok_mast i rfl (by omega) (by omega) (ok_mast i rfl (by omega) (by omega) ?_)
      exact ih (i + 1, _) ⟨by show i + 1 ≤ 1601; omega, MZ_ex (MZ_112 (MZ_113 ht i v) i 0) (fun j hj => ⟨up_lt rfl j, up_lt hv j, rfl⟩)⟩ (by show 1601 - (i + 1) < 1601 - i; omega)
    refine ok_ite (fun q1 => fin 1 ?_) (fun q1 => fin 0 ?_)
    · exact (if_pos (by omega)).symm
    · exact (if_neg (by omega)).symm) NN (0, t) ⟨Nat.zero_le _, MZ_ex h (fun j _ => ⟨by dsimp only; rw [if_neg (by omega)], by dsimp only; rw [if_neg (by omega)], rfl⟩)⟩ (NN_gt (by show 1601 - 0 < 100000; omega))
  obtain ⟨r, e, k⟩ := key
  exact ⟨r, e, k⟩
theorem m_by {t : Mu} {W c v1 : Int} (hW : t.1 111 = W) (hw : w32 W = W) {n : Nat} (hn : n ≤ 4) : m5_findMasses_l68 v1 t NN c n = some (c * W ^ (4 - n)) := by
  have key := loop_ind (fun q (i : Nat) => m5_findMasses_l68 v1 t q (c * W ^ (i - n)) (i : Int)) (fun i => 4 - i) (fun i => n ≤ i ∧ i ≤ 4) (fun _ r => r = c * W ^ (4 - n)) (by
    intro q i hi ih
    show ok (m5_findMasses_l68 v1 t (q + 1) (c * W ^ (i - n)) (i : Int)) _
    unfold m5_findMasses_l68
    rw [w32_n (by omega)]
    refine ok_ite (fun hz => ok_some (by rw [show i = 4 by omega])) (fun hz => ?_)
    rw [hW, hw, Int.mul_assoc, ← Int.pow_succ, show (i - n).succ = i + 1 - n by omega]
    exact ih (i + 1) ⟨by omega, by omega⟩ (by omega)) NN n ⟨Nat.le_refl _, hn⟩ (NN_gt (by omega))
  obtain ⟨r, e, rfl⟩ := key
  rw [Nat.sub_self, Int.pow_zero, Int.mul_one] at e
  exact e
theorem m_addm {m t : Mu} {f g k : Nat → Int} {n : Nat} (hn : n ≤ 4) (hg : ∀ x, 400 * n < x → g x = 0) {v2 : Int} (h : MZ m t f g k) : ∃ t', m5_findMasses_l91 n v2 NN 0 t = some t' ∧ MZ m t' (fun x => f x + v2 * g x) g k := by
  have key := loop_ind (fun q (s : Nat × Mu) => m5_findMasses_l91 n v2 q (s.1 : Int) s.2) (fun s => 1602 - s.1) (fun w => w.1 ≤ 400 * n + 1 ∧ MZ m w.2 (fun x => if x < w.1 then (fun x => f x + v2 * g x) x else f x) g k) (fun _ r => MZ m r (fun x => f x + v2 * g x) g k) (by
    rintro q ⟨i, t⟩ ⟨hi, ht⟩ ih
    dsimp only at hi ht ⊢
    show ok (m5_findMasses_l91 n v2 (q + 1) (i : Int) t) _
    unfold m5_findMasses_l91
    rw [w32_n (by omega), w32_id (x := 400 * (n : Int)) (by omega) (by omega)]
    refine ok_ite (fun hz => ok_some (MZ_ex ht (fun j hj => ⟨?_, rfl, rfl⟩))) (fun hz => ?_)
    · by_cases q1 : j < i
      · rw [if_pos q1]
      · rw [if_neg q1, hg j (by omega), Int.mul_zero, Int.add_zero]
    refine ok_mald i rfl (by omega) (by omega) (ok_mald i rfl (by omega) (by omega) (ok_mast i rfl (by omega) (by omega) ?_))
    rw [(ht.2 i (by omega)).1, (ht.2 i (by omega)).2.1]
    dsimp only
    rw [if_neg (show ¬ i < i by omega)]
    exact ih (i + 1, _) ⟨by show i + 1 ≤ 400 * n + 1; omega, MZ_ex (MZ_112 ht i _) (fun j hj => ⟨up_lt (f := fun x => f x + v2 * g x) rfl j, rfl, rfl⟩)⟩ (by show 1602 - (i + 1) < 1602 - i; omega)) NN (0, t) ⟨Nat.zero_le _, MZ_ex h (fun j _ => ⟨by dsimp only; rw [if_neg (by omega)], rfl, rfl⟩)⟩ (NN_gt (by show 1602 - 0 < 100000; omega))
  obtain ⟨r, e, k⟩ := key
  exact ⟨r, e, k⟩
theorem m_zero {m t : Mu} {f g k : Nat → Int} {v1 : Int} (h : MZ m t f g k) : ∃ t', m5_findMasses_l129 v1 NN 0 t = some t' ∧ MZ m t' f g (fun _ => 0) := by
  have key := loop_ind (fun q (s : Nat × Mu) => m5_findMasses_l129 v1 q (s.1 : Int) s.2) (fun s => 1601 - s.1) (fun w => w.1 ≤ 1601 ∧ MZ m w.2 f g (fun j => if j < w.1 then (fun _ => 0) j else k j)) (fun _ r => MZ m r f g (fun _ => 0)) (by
    rintro q ⟨i, t⟩ ⟨hi, ht⟩ ih
    dsimp only at hi ht ⊢
    show ok (m5_findMasses_l129 v1 (q + 1) (i : Int) t) _
    unfold m5_findMasses_l129
    rw [w32_n (by omega)]
    refine ok_ite (fun hz => ok_some (MZ_ex ht (fun j hj => ⟨rfl, rfl, by rw [if_pos (by omega)]⟩))) (fun hz => ok_mast i rfl (by omega) (by omega) ?_)
    exact ih (i + 1, _) ⟨by show i + 1 ≤ 1601; omega, MZ_ex (MZ_114 ht i 0) (fun j hj => ⟨rfl, rfl, up_lt rfl j⟩)⟩ (by show 1601 - (i + 1) < 1601 - i; omega)) NN (0, t) ⟨Nat.zero_le _, MZ_ex h (fun j _ => ⟨rfl, rfl, by dsimp only; rw [if_neg (by omega)]⟩)⟩ (NN_gt (by show 1601 - 0 < 100000; omega))
  obtain ⟨r, e, k⟩ := key
  exact ⟨r, e, k⟩
theorem m_copy {m t : Mu} {f g k : Nat → Int} {v1 : Int} (h : MZ m t f g k) : ∃ t', m5_findMasses_l234 v1 NN 0 t = some t' ∧ MZ m t' f k k := by
  have key := loop_ind (fun q (s : Nat × Mu) => m5_findMasses_l234 v1 q (s.1 : Int) s.2) (fun s => 1601 - s.1) (fun w => w.1 ≤ 1601 ∧ MZ m w.2 f (fun j => if j < w.1 then k j else g j) k) (fun _ r => MZ m r f k k) (by
    rintro q ⟨i, t⟩ ⟨hi, ht⟩ ih
    dsimp only at hi ht ⊢
    show ok (m5_findMasses_l234 v1 (q + 1) (i : Int) t) _
    unfold m5_findMasses_l234
    rw [w32_n (by omega)]
    refine ok_ite (fun hz => ok_some (MZ_ex ht (fun j hj => ⟨rfl, by rw [if_pos (by omega)], rfl⟩))) (fun hz => ok_mald i rfl (by omega) (by omega) (ok_mast i rfl (by omega) (by omega) ?_))
    exact ih (i + 1, _) ⟨by show i + 1 ≤ 1601; omega, MZ_ex (MZ_113 ht i _) (fun j hj => ⟨rfl, up_lt (ht.2 i (by omega)).2.2 j, rfl⟩)⟩ (by show 1601 - (i + 1) < 1601 - i; omega)) NN (0, t) ⟨Nat.zero_le _, MZ_ex h (fun j _ => ⟨rfl, by dsimp only; rw [if_neg (by omega)], rfl⟩)⟩ (NN_gt (by show 1601 - 0 < 100000; omega))
  obtain ⟨r, e, k⟩ := key
  exact ⟨r, e, k⟩
theorem m_fold1 {m t : Mu} {f g k s : Nat → Int} {n a : Nat} (hn : n ≤ 3) (ha : a < 401) (hs : ∀ a, a < 401 → m.2 109 a = s a ∧ 0 ≤ s a ∧ w32 (s a) = s a) (h : MZ m t f g k) : ∃ t', m5_findMasses_l170 n a NN 0 t = some t' ∧ MZ m t' f g (fun y => k y + Fa s g n y a) := by
  have key := loop_ind (fun q (s : Nat × Mu) => m5_findMasses_l170 n a q (s.1 : Int) s.2) (fun s => 1602 - s.1) (fun w => w.1 ≤ 400 * n + 1 ∧ MZ m w.2 f g (fun y => k y + if a ≤ y ∧ y - a < w.1 then s a * g (y - a) else 0)) (fun _ r => MZ m r f g (fun y => k y + Fa s g n y a)) (by
    rintro q ⟨x, t⟩ ⟨hi, ht⟩ ih
    dsimp only at hi ht ⊢
    show ok (m5_findMasses_l170 n a (q + 1) (x : Int) t) _
    unfold m5_findMasses_l170
    rw [w32_n (by omega), w32_id (x := 400 * (n : Int)) (by omega) (by omega)]
    refine ok_ite (fun hz => ok_some (MZ_ex ht (fun j hj => ⟨rfl, rfl, ?_⟩))) (fun hz => ?_)
    · unfold Fa
      by_cases q1 : a ≤ j ∧ j - a < x
      · rw [if_pos q1, if_pos ⟨q1.1, by omega⟩]
      · rw [if_neg q1, if_neg (fun z => q1 ⟨z.1, by omega⟩)]
    obtain ⟨s1, s2, s3⟩ := hs a ha
    refine ok_mald a rfl (by omega) (by omega) ?_
    rw [ht.1.2 109 (by simp), s1, s3]
    refine ok_ite (fun q1 => ok_some (MZ_ex ht (fun j hj => ⟨rfl, rfl, ?_⟩))) (fun q1 => ?_)
    · have : s a = 0 := by omega
      unfold Fa
      rw [this]
      simp
    refine ok_mald (x + a) (by omega) (by omega) (by omega) (ok_mald a rfl (by omega) (by omega) (ok_mald x rfl (by omega) (by omega) (ok_mast (x + a) (by omega) (by omega) (by omega) ?_)))
    rw [ht.1.2 109 (by simp), s1, s3, (ht.2 x (by omega)).2.1, (ht.2 (x + a) (by omega)).2.2]
    refine ih (x + 1, _) ⟨by show x + 1 ≤ 400 * n + 1; omega, MZ_ex (MZ_114 ht (x + a) _) (fun j hj => ⟨rfl, rfl, ?_⟩)⟩ (by show 1602 - (x + 1) < 1602 - x; omega)
    rw [va_up_e]
    dsimp only
    by_cases q2 : j = x + a
    · rw [if_pos q2, q2, if_neg (show ¬ (a ≤ x + a ∧ x + a - a < x) by omega), if_pos (show a ≤ x + a ∧ x + a - a < x + 1 by omega), show x + a - a = x by omega, Int.add_zero]
    · rw [if_neg q2]
      by_cases q3 : a ≤ j ∧ j - a < x
      · rw [if_pos q3, if_pos ⟨q3.1, by omega⟩]
      · rw [if_neg q3, if_neg (fun z => q3 ⟨z.1, by omega⟩)]) NN (0, t) ⟨Nat.zero_le _, MZ_ex h (fun j _ => ⟨rfl, rfl, by dsimp only; rw [if_neg (by omega), Int.add_zero]⟩)⟩ (NN_gt (by show 1602 - 0 < 100000; omega))
  obtain ⟨r, e, k⟩ := key
  exact ⟨r, e, k⟩
theorem m_fold2 {m t : Mu} {f g s : Nat → Int} {n : Nat} (hn : n ≤ 3) (hs : ∀ a, a < 401 → m.2 109 a = s a ∧ 0 ≤ s a ∧ w32 (s a) = s a) (h : MZ m t f g (fun _ => 0)) : ∃ t', m5_findMasses_l154 n NN 0 t = some t' ∧ MZ m t' f g (fun y => sm (Fa s g n y) 401) := by
  have key := loop_ind (fun q (s : Nat × Mu) => m5_findMasses_l154 n q (s.1 : Int) s.2) (fun s => 401 - s.1) (fun w => w.1 ≤ 401 ∧ MZ m w.2 f g (fun y => sm (Fa s g n y) w.1)) (fun _ r => MZ m r f g (fun y => sm (Fa s g n y) 401)) (by
    rintro q ⟨a, t⟩ ⟨hi, ht⟩ ih
    dsimp only at hi ht ⊢
    show ok (m5_findMasses_l154 n (q + 1) (a : Int) t) _
    unfold m5_findMasses_l154
    rw [w32_n (by omega), w32_n (by omega)]
    refine ok_ite (fun hz => ok_some (by rw [show a = 401 by omega] at ht; exact ht)) (fun hz => ok_neg (by omega) ?_)
    obtain ⟨t2, e2, h2⟩ := m_fold1 hn (a := a) (by omega) hs ht
    exact ok_eq e2 (ih (a + 1, t2) ⟨by show a + 1 ≤ 401; omega, h2⟩ (by show 401 - (a + 1) < 401 - a; omega))) NN (0, t) ⟨Nat.zero_le _, h⟩ (NN_gt (by show 401 - 0 < 100000; omega))
  obtain ⟨r, e, k⟩ := key
  exact ⟨r, e, k⟩
theorem m_find {m t : Mu} {k s c : Nat → Int} {W : Int} (hW : m.1 111 = W) (hWb : 0 ≤ W ∧ W ≤ 200) (hs : ∀ a, a < 401 → m.2 109 a = s a ∧ 0 ≤ s a ∧ w32 (s a) = s a) (hc : ∀ n, n < 5 → m.2 110 n = c n ∧ w32 (c n) = c n) (h : MZ m t (fun _ => 0) (cv s 0) k) : ∃ t' g' k', m5_findMasses_l52 NN 0 t = some t' ∧ MZ m t' (mB s c W 5) g' k' := by
  have key := loop_ind (fun q (s : Nat × Mu) => m5_findMasses_l52 q (s.1 : Int) s.2) (fun s => 5 - s.1) (fun w => w.1 ≤ 5 ∧ ∃ g' k', MZ m w.2 (mB s c W w.1) g' k' ∧ (w.1 ≤ 4 → g' = cv s w.1)) (fun _ r => ∃ g' k', MZ m r (mB s c W 5) g' k') (by
    rintro q ⟨n, t⟩ ⟨hn, g', k', ht, hg⟩ ih
    dsimp only at hn ht hg ⊢
    show ok (m5_findMasses_l52 (q + 1) (n : Int) t) _
    unfold m5_findMasses_l52
    rw [w32_n (by omega)]
    refine ok_ite (fun hz => ok_some ⟨g', k', by rw [show n = 5 by omega] at ht; exact ht⟩) (fun hz => ?_)
    rw [hg (by omega)] at ht
    refine ok_mald n rfl (by omega) (by omega) ?_
    rw [ht.1.2 110 (by simp), (hc n (by omega)).1, (hc n (by omega)).2]
    refine ok_eq (m_by (W := W) (by rw [ht.1.1 111 (by simp)]; exact hW) (w32_id (by omega) (by omega)) (by omega)) ?_
    obtain ⟨t2, e2, h2⟩ := m_addm (n := n) (by omega) (cv_0 n) (v2 := c n * W ^ (4 - n)) ht
    obtain ⟨t3, e3, h3⟩ := m_zero (v1 := n) h2
    refine ok_eq e2 (ok_eq e3 ?_)
    by_cases q1 : n = 4
    · subst q1
      have e4 : m5_findMasses_l154 (4 : Nat) NN 0 t3 = some t3 := by
        obtain ⟨N, hN⟩ : ∃ N, NN = N + 1 := ⟨NN - 1, by have := NN_ge; omega⟩
        rw [hN]
        unfold m5_findMasses_l154
        rw [if_neg (by decide), if_pos (by decide)]
      obtain ⟨t5, e5, h5⟩ := m_copy (v1 := (4 : Nat)) h3
      refine ok_eq e4 ?_
      unfold m5_findMasses_b231
      exact ok_eq e5 (ih (4 + 1, t5) ⟨by show 4 + 1 ≤ 5; omega, _, _, h5, fun z => by dsimp only at z; omega⟩ (by show 5 - (4 + 1) < 5 - 4; omega))
    · obtain ⟨t4, e4, h4⟩ := m_fold2 (n := n) (by omega) hs h3
      obtain ⟨t5, e5, h5⟩ := m_copy (v1 := n) h4
      refine ok_eq e4 ?_
      unfold m5_findMasses_b231
      exact ok_eq e5 (ih (n + 1, t5) ⟨by show n + 1 ≤ 5; omega, _, _, h5, fun _ => funext fun y => cv_m⟩ (by show 5 - (n + 1) < 5 - n; omega))) NN (0, t) ⟨by dsimp only; omega, cv s 0, k, h, fun _ => rfl⟩ (NN_gt (by show 5 - 0 < 100000; omega))
  obtain ⟨r, e, g', k', hh⟩ := key
  exact ⟨r, g', k', e, hh⟩

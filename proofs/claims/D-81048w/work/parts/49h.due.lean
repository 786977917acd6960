def big (x : Int) : Prop := -1000000000000000000 ≤ x ∧ x ≤ 1000000000000000000
theorem w64_b {x : Int} (h : big x) : w64 x = x := by unfold big at h; unfold w64; omega
theorem bnd_e {x t y : Int} (hx : big x) (ht : -1000000000 ≤ t ∧ t ≤ 1000000000) (hy : -100000000000 ≤ y ∧ y ≤ 100000000000) : f0_bounded x t y = some (if 0 ≤ t then max 0 (min x (t - y)) else x) := by
  unfold f0_bounded mx64 mn64
  rw [w32_id (x := t) (by omega) (by omega), w64_b hx, w64_b (x := t - y) (by unfold big; omega)]
  by_cases h0 : 0 ≤ t
  · rw [if_pos h0, if_pos h0]
    unfold big at hx
    by_cases h1 : t - y < x
    · rw [if_pos h1, w64_b (x := t - y) (by unfold big; omega), show w64 0 = 0 by decide]
      congr 1
      split <;> omega
    · rw [if_neg h1, w64_b (x := x) (by unfold big; omega), show w64 0 = 0 by decide]
      congr 1
      split <;> omega
  · rw [if_neg h0, if_neg h0]
theorem les_e {x y : Int} (hx : big x) (hy : big y) : m5_lesser x y = some (min x y) := by
  unfold m5_lesser
  rw [w64_b hx, w64_b hy]
  by_cases h : y ≤ x
  · rw [if_pos h]; congr 1; omega
  · rw [if_neg h]; congr 1; omega
theorem dv_e {a b : Int} (ha : 0 ≤ a ∧ a ≤ 1000000000) (hb : 0 ≤ b ∧ b ≤ 1000000) : div64 (a * b) 1000 = a * b / 1000 ∧ 0 ≤ a * b / 1000 ∧ a * b ≤ 1000000000000000 := by
  have h1 : a * b ≤ 1000000000 * b := Int.mul_le_mul_of_nonneg_right ha.2 hb.1
  have h0 : 0 ≤ a * b := Int.mul_nonneg ha.1 hb.1
  unfold div64
  rw [w64_b (x := a * b) (by unfold big; omega), show w64 1000 = 1000 by decide, Int.tdiv_eq_ediv_of_nonneg h0]
  exact ⟨rfl, by omega, by omega⟩
/-- the class's chain -/
theorem c_chain {loss lim tot yr : Int} {s : Nat → Int} (hl : 0 ≤ loss ∧ loss ≤ 99999999) (h0 : smO (s 0) 99999999) (h1 : smO (s 1) 1000) (h2 : smO (s 2) 99999999) (h3 : smO (s 3) 99999999) (h4 : smO (s 4) 99999999) (hm : 0 ≤ lim ∧ lim ≤ 99999999) (ht : 0 ≤ tot ∧ tot ≤ 10000000000) (hy : 0 ≤ yr ∧ yr ≤ 10000000000) {x : Int} (hx : x = (if 0 ≤ s 1 then s 1 else 1000)) : ((f0_bounded (div64 (mx64 0 (w32 (loss - (mx32 0 (s 0)))) * (w32 x)) 1000) (s 2) 0).bind fun x3 => (f0_bounded x3 (s 3) yr).bind fun x6 => (f0_bounded x6 (s 4) tot).bind fun x9 => f0_bounded x9 lim tot) = some (chV loss s lim tot yr) ∧ 0 ≤ chV loss s lim tot yr ∧ chV loss s lim tot yr ≤ 99999999 := by
  unfold smO at h0 h1 h2 h3 h4
  have ea : mx64 0 (w32 (loss - (mx32 0 (s 0)))) = max 0 (loss - max 0 (s 0)) := by
    unfold mx64 mx32
    rw [w32_id (x := s 0) (by omega) (by omega), show w32 0 = 0 by decide]
    have e1 : (if 0 < s 0 then s 0 else 0) = max 0 (s 0) := by split <;> omega
    rw [e1, w32_id (by omega) (by omega), show w64 0 = 0 by decide, w64_b (by unfold big; omega)]
    split <;> omega
  have hx1 : 0 ≤ x ∧ x ≤ 1000 := by rw [hx]; split <;> omega
  rw [ea, w32_id (x := x) (by omega) (by omega)]
  unfold chV
  rw [← hx]
  generalize ha0 : max 0 (loss - max 0 (s 0)) = a0
  have b0 : 0 ≤ a0 ∧ a0 ≤ 99999999 := by omega
  obtain ⟨d1, d2, d3⟩ := dv_e (a := a0) (b := x) (by omega) (by omega)
  have d4 : a0 * x / 1000 ≤ 99999999 := by
    have q1 : a0 * x ≤ 99999999 * x := Int.mul_le_mul_of_nonneg_right b0.2 hx1.1
    have q2 : 99999999 * x ≤ 99999999 * 1000 := by omega
    omega
  rw [d1]
  generalize a0 * x / 1000 = a1 at *
  rw [bnd_e (by unfold big; omega) (by omega) (by omega), Option.bind_some]
  generalize hb2 : (if 0 ≤ s 2 then max 0 (min a1 (s 2 - 0)) else a1) = b2
  have c2 : 0 ≤ b2 ∧ b2 ≤ 99999999 := by rw [← hb2]; split <;> omega
  rw [bnd_e (by unfold big; omega) (by omega) (by omega), Option.bind_some]
  generalize hb3 : (if 0 ≤ s 3 then max 0 (min b2 (s 3 - yr)) else b2) = b3
  have c3 : 0 ≤ b3 ∧ b3 ≤ 99999999 := by rw [← hb3]; split <;> omega
  rw [bnd_e (by unfold big; omega) (by omega) (by omega), Option.bind_some]
  generalize hb4 : (if 0 ≤ s 4 then max 0 (min b3 (s 4 - tot)) else b3) = b4
  have c4 : 0 ≤ b4 ∧ b4 ≤ 99999999 := by rw [← hb4]; split <;> omega
  rw [bnd_e (by unfold big; omega) (by omega) (by omega), if_pos hm.1]
  unfold chW cap
  refine ⟨?_, by omega, ?_⟩
  · congr 1
    rw [← hb4, ← hb3, ← hb2]
    by_cases q2 : 0 ≤ s 2 <;> by_cases q3 : 0 ≤ s 3 <;> by_cases q4 : 0 ≤ s 4 <;> simp only [q2, q3, q4, if_true, if_false] <;> omega
  · by_cases q2 : 0 ≤ s 2 <;> by_cases q3 : 0 ≤ s 3 <;> by_cases q4 : 0 ≤ s 4 <;> simp only [q2, q3, q4, if_true, if_false] <;> omega

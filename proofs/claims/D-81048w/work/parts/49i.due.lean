/-- the twin's chain -/
theorem m_chain {m : Mu} {p w : Nat} {W : Wv} {d k loss lim tot yr : Int} (hw : slc m w = W) (hw13 : w ≤ 13) (hl : 0 ≤ loss ∧ loss ≤ 99999999) (h0 : smO (W 32 0) 99999999) (h1 : smO (W 32 1) 1000) (h2 : smO (W 32 2) 99999999) (h3 : smO (W 32 3) 99999999) (h4 : smO (W 32 4) 99999999) (hm : 0 ≤ lim ∧ lim ≤ 99999999) (hh : m5_held p 1 d k m = some lim) (ht : 0 ≤ tot ∧ tot ≤ 10000000000) (hy : 0 ≤ yr ∧ yr ≤ 10000000000) {x : Int} (hx : x = max 0 (W 32 0)) : m5_due_b216 k p d yr tot (5 * (w : Int)) loss x m = some (chV loss (W 32) lim tot yr, m) := by
  unfold smO at h0 h1 h2 h3 h4
  have rd : ∀ (j : Nat) (i : Int), j < 5 → i = 5 * (w : Int) + j → mald m 32 70 i = some (W 32 j) := by
    rintro j i hj rfl
    rw [← hw]
    exact m_sl (w := w) (k := 32) (j := j) (by show j < 5; omega) (by show (5 : Int) * w + j = ((5 * w + j : Nat) : Int); omega) (by show 5 * w + j < 70; omega) (by omega)
  have f5 : ∀ a, big a → m5_due_b378 k p d tot a m = some (max 0 (min a (lim - tot)), m) := by
    intro a ha
    unfold m5_due_b378
    unfold big at ha
    rw [hh, Option.bind_some, w32_id (x := lim) (by omega) (by omega), les_e (by unfold big; omega) (by unfold big; omega), Option.bind_some, w64_b (by unfold big; omega)]
    split
    · congr 2; omega
    · congr 2; omega
  have f4 : ∀ a, -100000000000 ≤ a ∧ a ≤ 100000000000 → m5_due_b341 k p d tot (5 * (w : Int)) a m = some (max 0 (min (cap (W 32 4) a tot) (lim - tot)), m) := by
    intro a ha
    unfold m5_due_b341
    rw [rd 4 (5 * (w : Int) + 4) (by omega) rfl, Option.bind_some, w32_id (x := W 32 4) (by omega) (by omega)]
    unfold cap
    by_cases hz : 0 ≤ W 32 4
    · rw [if_pos hz, if_pos hz, Option.bind_some, w32_id (x := W 32 4) (by omega) (by omega), les_e (by unfold big; omega) (by unfold big; omega), Option.bind_some, f5 _ (by unfold big; omega)]
    · rw [if_neg hz, if_neg hz, f5 _ (by unfold big; omega)]
  have f3 : ∀ a, -10000000000 ≤ a ∧ a ≤ 10000000000 → m5_due_b304 k p d yr tot (5 * (w : Int)) a m = some (max 0 (min (cap (W 32 4) (cap (W 32 3) a yr) tot) (lim - tot)), m) := by
    intro a ha
    unfold m5_due_b304
    rw [rd 3 (5 * (w : Int) + 3) (by omega) rfl, Option.bind_some, w32_id (x := W 32 3) (by omega) (by omega)]
    by_cases hz : 0 ≤ W 32 3
    · rw [if_pos hz, Option.bind_some, w32_id (x := W 32 3) (by omega) (by omega), les_e (by unfold big; omega) (by unfold big; omega), Option.bind_some, f4 _ (by omega), show cap (W 32 3) a yr = min a (W 32 3 - yr) from if_pos hz]
    · rw [if_neg hz, f4 _ (by omega), show cap (W 32 3) a yr = a from if_neg hz]
  have f2 : ∀ a b, 0 ≤ a ∧ a ≤ 99999999 → 0 ≤ b ∧ b ≤ 1000 → m5_due_b264 k p d yr tot (5 * (w : Int)) a b m = some (chW (a * b / 1000) (W 32) lim tot yr, m) := by
    intro a b ha hb
    unfold m5_due_b264
    obtain ⟨d1, d2, d3⟩ := dv_e (a := a) (b := b) (by omega) (by omega)
    have d4 : a * b / 1000 ≤ 99999999 := by
      have q1 : a * b ≤ 99999999 * b := Int.mul_le_mul_of_nonneg_right ha.2 hb.1
      have q2 : 99999999 * b ≤ 99999999 * 1000 := by omega
      omega
    rw [rd 2 (5 * (w : Int) + 2) (by omega) rfl, Option.bind_some, w32_id (x := W 32 2) (by omega) (by omega), w32_id (x := b) (by omega) (by omega), d1]
    unfold chW
    generalize a * b / 1000 = a1 at *
    by_cases hz : 0 ≤ W 32 2
    · rw [if_pos hz, Option.bind_some, w32_id (x := W 32 2) (by omega) (by omega), les_e (by unfold big; omega) (by unfold big; omega), Option.bind_some, f3 _ (by omega), show cap (W 32 2) a1 0 = min a1 (W 32 2) by unfold cap; rw [if_pos hz, Int.sub_zero]]
    · rw [if_neg hz, f3 _ (by omega), show cap (W 32 2) a1 0 = a1 from if_neg hz]
  have f1 : ∀ a, 0 ≤ a ∧ a ≤ 99999999 → m5_due_b233 k p d yr tot (5 * (w : Int)) a m = some (chW (a * (if 0 ≤ W 32 1 then W 32 1 else 1000) / 1000) (W 32) lim tot yr, m) := by
    intro a ha
    unfold m5_due_b233
    rw [rd 1 (5 * (w : Int) + 1) (by omega) rfl, Option.bind_some, w32_id (x := W 32 1) (by omega) (by omega)]
    by_cases hz : 0 ≤ W 32 1
    · rw [if_pos hz, if_pos hz, Option.bind_some, f2 _ _ ha (by omega)]
    · rw [if_neg hz, if_neg hz, f2 _ _ ha (by omega)]
  unfold m5_due_b216 chV
  rw [hx, w32_id (x := loss - max 0 (W 32 0)) (by omega) (by omega), w64_b (by unfold big; omega)]
  by_cases hz : 0 ≤ loss - max 0 (W 32 0)
  · rw [if_pos hz, f1 _ (by omega), show max 0 (loss - max 0 (W 32 0)) = loss - max 0 (W 32 0) by omega]
  · rw [if_neg hz, f1 _ (by omega), show max 0 (loss - max 0 (W 32 0)) = 0 by omega]

/-! ENDORSE: the twin joins: counting, and all together -/
theorem m_l11 {m : Mu} {w v : Nat} {W : Wv} (hv : v ≤ 13) (hW : slc m v = W) (h23 : W 23 0 = (nC W : Int)) (h24 : nC W ≤ 24) (hst : ∀ k, k < nC W → m.2 57 k = -1 ∨ m.2 57 k = -2 ∨ (0 ≤ m.2 57 k ∧ m.2 57 k < 1400)) : m5_join_l11 w v m NN 0 (m.1 46) 0 = some (((csO W m (nC W)).length : Int), m.1 46 + lsm (fun k => if m.2 57 k = -1 then W 26 k - W 25 k else 0) (nC W)) := by
  have key := loop_ind (fun q (k : Nat) => m5_join_l11 w v m q ((csO W m k).length : Int) (m.1 46 + lsm (fun k => if m.2 57 k = -1 then W 26 k - W 25 k else 0) k) (k : Int)) (fun k => 30 - k) (fun k => k ≤ nC W) (fun _ r => r = (((csO W m (nC W)).length : Int), m.1 46 + lsm (fun k => if m.2 57 k = -1 then W 26 k - W 25 k else 0) (nC W))) (by
    intro q k hk ih
    show ok (m5_join_l11 w v m (q + 1) ((csO W m k).length : Int) (m.1 46 + lsm (fun k => if m.2 57 k = -1 then W 26 k - W 25 k else 0) k) (k : Int)) _
    unfold m5_join_l11
    have e23 : mald m 23 14 (v : Int) = some (W 23 0) := by rw [← hW]; exact m_sl (w := v) (k := 23) (j := 0) (by decide) (by show (v : Int) = ((1 * v + 0 : Nat) : Int); omega) (by show 1 * v + 0 < 14; omega) (by omega)
    refine ok_eq e23 ?_
    rw [h23, w32_n (by omega), w32_n (by omega)]
    refine ok_ite (fun hz => ok_some (by rw [show nC W = k by omega])) (fun hz => ?_)
    have hkn : k < nC W := by omega
    have st := hst k hkn
    have w57 : w32 (m.2 57 k) = m.2 57 k := w32_id (by omega) (by omega)
    refine ok_mald k rfl (by omega) (by omega) ?_
    rw [w57]
    have e25 : mald m 25 336 (24 * (v : Int) + k) = some (W 25 k) := by rw [← hW]; exact m_sl (w := v) (k := 25) (j := k) (show k < 24 by omega) (by show (24 * (v : Int) + k) = ((24 * v + k : Nat) : Int); omega) (by show 24 * v + k < 336; omega) (by omega)
    have e26 : mald m 26 336 (24 * (v : Int) + k) = some (W 26 k) := by rw [← hW]; exact m_sl (w := v) (k := 26) (j := k) (show k < 24 by omega) (by show (24 * (v : Int) + k) = ((24 * v + k : Nat) : Int); omega) (by show 24 * v + k < 336; omega) (by omega)
    have nx := ih (k + 1) (by omega) (by show 30 - (k + 1) < 30 - k; omega)
    rw [lsm_s] at nx
    have es : csO W m (k + 1) = csO W m k ++ (if m.2 57 k = -1 then [(W 24 k, (seg W (W 25 k) (W 26 k)).map w8n)] else if m.2 57 k < 0 then [] else [newC m (m.2 57 k).toNat]) := rfl
    have fin : ∀ (a d : Int), a = ((csO W m (k + 1)).length : Int) → d = (if m.2 57 k = -1 then W 26 k - W 25 k else 0) → ok (m5_join_l11 w v m q a (m.1 46 + lsm (fun k => if m.2 57 k = -1 then W 26 k - W 25 k else 0) k + d) ((k : Int) + 1)) (fun r => r = (((csO W m (nC W)).length : Int), m.1 46 + lsm (fun k => if m.2 57 k = -1 then W 26 k - W 25 k else 0) (nC W))) := fun a d ha hd => by
      rw [ha, hd, Int.add_assoc]; exact nx
    refine ok_ite (fun z1 => ?_) (fun z1 => ?_)
    · unfold m5_join_b40 m5_join_b84
      refine ok_mald k rfl (by omega) (by omega) ?_
      rw [w57]
      refine ok_neg (by omega) ?_
      refine fin _ _ ?_ (by rw [if_neg (by omega)])
      rw [es, if_neg (by omega), if_pos (by omega), List.append_nil]; omega
    · unfold m5_join_b40 m5_join_b84
      refine ok_mald k rfl (by omega) (by omega) ?_
      rw [w57]
      refine ok_ite (fun z2 => ok_eq e26 (ok_eq e25 ?_)) (fun z2 => ?_)
      · refine fin _ _ ?_ (by rw [if_pos z2])
        rw [es, if_pos z2, List.length_append]; show _ = (((csO W m k).length + 1 : Nat) : Int); omega
      · refine fin _ _ ?_ (by rw [if_neg z2])
        rw [es, if_neg z2, if_neg (by omega), List.length_append]; show _ = (((csO W m k).length + 1 : Nat) : Int); omega) NN 0 (Nat.zero_le _) (NN_gt (by show 30 - 0 < 100000; omega))
  obtain ⟨r, e, hr⟩ := key
  have hr : r = (((csO W m (nC W)).length : Int), m.1 46 + lsm (fun k => if m.2 57 k = -1 then W 26 k - W 25 k else 0) (nC W)) := hr
  subst hr
  have e : m5_join_l11 w v m NN 0 (m.1 46 + 0) 0 = _ := e
  rw [Int.add_zero] at e
  exact e
theorem m_l96 {m : Mu} {w v : Nat} {W : Wv} (v3 a : Int) (hv : v ≤ 13) (hW : slc m v = W) (h19 : W 19 0 = (nM W : Int)) (h12 : nM W ≤ 12) : m5_join_l96 w v v3 m NN a 0 = some (a + lsm (fun k => W 22 k - W 21 k) (nM W)) := by
  have key := loop_ind (fun q (k : Nat) => m5_join_l96 w v v3 m q (a + lsm (fun k => W 22 k - W 21 k) k) (k : Int)) (fun k => 30 - k) (fun k => k ≤ nM W) (fun _ r => r = a + lsm (fun k => W 22 k - W 21 k) (nM W)) (by
    intro q k hk ih
    show ok (m5_join_l96 w v v3 m (q + 1) (a + lsm (fun k => W 22 k - W 21 k) k) (k : Int)) _
    unfold m5_join_l96
    have e19 : mald m 19 14 (v : Int) = some (W 19 0) := by rw [← hW]; exact m_sl (w := v) (k := 19) (j := 0) (by decide) (by show (v : Int) = ((1 * v + 0 : Nat) : Int); omega) (by show 1 * v + 0 < 14; omega) (by omega)
    refine ok_eq e19 ?_
    rw [h19, w32_n (by omega), w32_n (by omega)]
    refine ok_ite (fun hz => ok_some (by rw [show nM W = k by omega])) (fun hz => ?_)
    have e22 : mald m 22 168 (12 * (v : Int) + k) = some (W 22 k) := by rw [← hW]; exact m_sl (w := v) (k := 22) (j := k) (show k < 12 by omega) (by show (12 * (v : Int) + k) = ((12 * v + k : Nat) : Int); omega) (by show 12 * v + k < 168; omega) (by omega)
    have e21 : mald m 21 168 (12 * (v : Int) + k) = some (W 21 k) := by rw [← hW]; exact m_sl (w := v) (k := 21) (j := k) (show k < 12 by omega) (by show (12 * (v : Int) + k) = ((12 * v + k : Nat) : Int); omega) (by show 12 * v + k < 168; omega) (by omega)
    refine ok_eq e22 (ok_eq e21 ?_)
    have nx := ih (k + 1) (by omega) (by show 30 - (k + 1) < 30 - k; omega)
    rw [lsm_s] at nx
    rw [Int.add_assoc]; exact nx) NN 0 (Nat.zero_le _) (NN_gt (by show 30 - 0 < 100000; omega))
  obtain ⟨r, e, hr⟩ := key
  have hr : r = a + lsm (fun k => W 22 k - W 21 k) (nM W) := hr
  subst hr
  have e : m5_join_l96 w v v3 m NN (a + 0) 0 = _ := e
  rw [Int.add_zero] at e
  exact e
theorem m_l146 {m : Mu} {w v : Nat} {W : Wv} (v3 a : Int) (hv : v ≤ 13) (hW : slc m v = W) (h27 : W 27 0 = (nP W : Int)) (h24 : nP W ≤ 24) : m5_join_l146 w v v3 m NN a 0 = some (a + lsm (fun k => W 31 k - W 30 k) (nP W)) := by
  have key := loop_ind (fun q (k : Nat) => m5_join_l146 w v v3 m q (a + lsm (fun k => W 31 k - W 30 k) k) (k : Int)) (fun k => 30 - k) (fun k => k ≤ nP W) (fun _ r => r = a + lsm (fun k => W 31 k - W 30 k) (nP W)) (by
    intro q k hk ih
    show ok (m5_join_l146 w v v3 m (q + 1) (a + lsm (fun k => W 31 k - W 30 k) k) (k : Int)) _
    unfold m5_join_l146
    have e27 : mald m 27 14 (v : Int) = some (W 27 0) := by rw [← hW]; exact m_sl (w := v) (k := 27) (j := 0) (by decide) (by show (v : Int) = ((1 * v + 0 : Nat) : Int); omega) (by show 1 * v + 0 < 14; omega) (by omega)
    refine ok_eq e27 ?_
    rw [h27, w32_n (by omega), w32_n (by omega)]
    refine ok_ite (fun hz => ok_some (by rw [show nP W = k by omega])) (fun hz => ?_)
    have e31 : mald m 31 336 (24 * (v : Int) + k) = some (W 31 k) := by rw [← hW]; exact m_sl (w := v) (k := 31) (j := k) (show k < 24 by omega) (by show (24 * (v : Int) + k) = ((24 * v + k : Nat) : Int); omega) (by show 24 * v + k < 336; omega) (by omega)
    have e30 : mald m 30 336 (24 * (v : Int) + k) = some (W 30 k) := by rw [← hW]; exact m_sl (w := v) (k := 30) (j := k) (show k < 24 by omega) (by show (24 * (v : Int) + k) = ((24 * v + k : Nat) : Int); omega) (by show 24 * v + k < 336; omega) (by omega)
    refine ok_eq e31 (ok_eq e30 ?_)
    have nx := ih (k + 1) (by omega) (by show 30 - (k + 1) < 30 - k; omega)
    rw [lsm_s] at nx
    rw [Int.add_assoc]; exact nx) NN 0 (Nat.zero_le _) (NN_gt (by show 30 - 0 < 100000; omega))
  obtain ⟨r, e, hr⟩ := key
  have hr : r = a + lsm (fun k => W 31 k - W 30 k) (nP W) := hr
  subst hr
  have e : m5_join_l146 w v v3 m NN (a + 0) 0 = _ := e
  rw [Int.add_zero] at e
  exact e
theorem m_l196 {m : Mu} {w v nc : Nat} (v4 a : Int) (h56 : m.1 56 = (nc : Int)) (hnc : nc ≤ 1400) (h58 : ∀ j, j < nc → m.2 58 j = 0 ∨ m.2 58 j = 1) : m5_join_l196 w v v4 m NN a 0 = some (a + ((csN m nc).length : Int)) := by
  have key := loop_ind (fun q (k : Nat) => m5_join_l196 w v v4 m q (a + ((csN m k).length : Int)) (k : Int)) (fun k => 1500 - k) (fun k => k ≤ nc) (fun _ r => r = a + ((csN m nc).length : Int)) (by
    intro q k hk ih
    show ok (m5_join_l196 w v v4 m (q + 1) (a + ((csN m k).length : Int)) (k : Int)) _
    unfold m5_join_l196
    rw [h56, w32_n (by omega), w32_n (by omega)]
    refine ok_ite (fun hz => ok_some (by rw [show nc = k by omega])) (fun hz => ?_)
    have h := h58 k (by omega)
    refine ok_mald k rfl (by omega) (by omega) ?_
    rw [w32_id (x := m.2 58 k) (by omega) (by omega)]
    have es : csN m (k + 1) = csN m k ++ (if m.2 58 k = 0 then [newC m k] else []) := rfl
    have nx := ih (k + 1) (by omega) (by show 1500 - (k + 1) < 1500 - k; omega)
    refine ok_ite (fun z => ?_) (fun z => ?_)
    · rw [es, if_pos z, List.length_append] at nx
      unfold m5_join_b221
      rw [Int.add_assoc]; exact nx
    · rw [es, if_neg z, List.append_nil] at nx
      unfold m5_join_b221
      rw [Int.add_zero]; exact nx) NN 0 (Nat.zero_le _) (NN_gt (by show 1500 - 0 < 100000; omega))
  obtain ⟨r, e, hr⟩ := key
  have hr : r = a + ((csN m nc).length : Int) := hr
  subst hr
  have e : m5_join_l196 w v v4 m NN (a + 0) 0 = _ := e
  rw [Int.add_zero] at e
  exact e

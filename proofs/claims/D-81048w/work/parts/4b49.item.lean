/-! THE READER: an item -/
theorem ITM_id {G : CG} {L : Ly} {r a N0 : Nat} {t : Sg} {m : Mu} {x : Option (((Nat ⊕ Unit) × Sg) × Nat × Nat)} {y : Option Mu} (h : ITM G L r a N0 t m x y) : ITM G L r a N0 t m (bdU x fun q => tel q.1 (fun e => xth e q.2) fun _ => some ((.inr (), q.2), 0, 0)) y := by
  rcases h with ⟨t', cc, nn, m', κ', W', e1, e2⟩ | ⟨e, t', cc, nn, K, P, m', e1, e2, e3⟩
  · refine Or.inl ⟨t', cc, nn, m', κ', W', ?_, e2⟩
    rw [e1, te_okc]
    show some ((Sum.inr (), t'), 0 + cc, 0 + nn) = _
    rw [Nat.zero_add, Nat.zero_add]
  · refine Or.inr ⟨e, t', cc, nn, K, P, m', ?_, e2, e3⟩
    rw [e1, xt_tel e2.1]
theorem ite_b2i {α : Type} {p : Prop} [Decidable p] {x y : α} : (if b2i (decide p) = 0 then x else y) = if p then y else x := by
  by_cases h : p
  · rw [decide_eq_true h, if_pos h]; rfl
  · rw [decide_eq_false h, if_neg h]; rfl
theorem c_isCl {G : CG} {L : Ly} {t : Sg} {m : Mu} {r : Nat} (h : R7 G L t m r) : f7_isClause G (some r) t = some (if m.1 4 = 4 ∧ 6 ≤ m.1 7 ∧ m.1 7 ≤ 8 then 1 else 0) := by
  unfold f7_isClause
  simp only [ztg_e h.1.1.1, Option.bind_some]
  rw [c_is h (j := 6) (by decide) (show (427071792498 : Int) = (enc 256 (wdC 6) : Nat) by decide), Option.bind_some, w32_b2i, ite_b2i]
  by_cases z : m.1 4 = 4 ∧ m.1 7 = ((6 : Nat) : Int)
  · rw [if_pos z, if_pos (by omega)]
  · rw [if_neg z, c_is h (j := 7) (by decide) (show (465557354085 : Int) = (enc 256 (wdC 7) : Nat) by decide), Option.bind_some, w32_b2i, ite_b2i]
    by_cases z2 : m.1 4 = 4 ∧ m.1 7 = ((7 : Nat) : Int)
    · rw [if_pos z2, if_pos (by omega)]
    · rw [if_neg z2, c_is h (j := 8) (by decide) (show (1650549611 : Int) = (enc 256 (wdC 8) : Nat) by decide), Option.bind_some, w32_b2i, ite_b2i]
      by_cases z3 : m.1 4 = 4 ∧ m.1 7 = ((8 : Nat) : Int)
      · rw [if_pos z3, if_pos (by omega)]
      · rw [if_neg z3, if_neg (by omega)]
theorem m_isCl {G : CG} {L : Ly} {t : Sg} {m : Mu} {r : Nat} (h : R7 G L t m r) : m5_isClause m = some (if m.1 4 = 4 ∧ 6 ≤ m.1 7 ∧ m.1 7 ≤ 8 then 1 else 0) := by
  obtain ⟨k1, k2⟩ := tk_w h.2.2.1
  unfold m5_isClause
  rw [k1.2.2.1]
  by_cases z : m.1 4 = 4
  · rw [if_pos z, (k2 (by omega)).1]
    by_cases z1 : m.1 7 < 6
    · rw [if_pos z1, if_neg (by omega)]
    · rw [if_neg z1]
      by_cases z2 : 8 < m.1 7
      · rw [if_pos z2, if_neg (by omega)]
      · rw [if_neg z2, if_pos (by omega)]
  · rw [if_neg z, if_neg (by omega)]
theorem c_prK {G : CG} {L : Ly} {t : Sg} {m : Mu} {r : Nat} (h : R7 G L t m r) (h4 : m.1 4 = 4) : f7_priceKind G (some r) t = some (if 15 ≤ m.1 7 ∧ m.1 7 ≤ 19 then m.1 7 - 15 else -1) := by
  unfold f7_priceKind
  simp only [ztg_e h.1.1.1, Option.bind_some]
  rw [c_is h (j := 15) (by decide) (show (1918989413 : Int) = (enc 256 (wdC 15) : Nat) by decide), Option.bind_some, w32_b2i, ite_b2i]
  by_cases z : m.1 4 = 4 ∧ m.1 7 = ((15 : Nat) : Int)
  · rw [if_pos z, if_pos (by omega)]; exact congrArg some (by omega)
  · rw [if_neg z, c_is h (j := 16) (by decide) (show (499984983411 : Int) = (enc 256 (wdC 16) : Nat) by decide), Option.bind_some, w32_b2i, ite_b2i]
    by_cases z2 : m.1 4 = 4 ∧ m.1 7 = ((16 : Nat) : Int)
    · rw [if_pos z2, if_pos (by omega)]; exact congrArg some (by omega)
    · rw [if_neg z2, c_is h (j := 17) (by decide) (show (1886156147 : Int) = (enc 256 (wdC 17) : Nat) by decide), Option.bind_some, w32_b2i, ite_b2i]
      by_cases z3 : m.1 4 = 4 ∧ m.1 7 = ((17 : Nat) : Int)
      · rw [if_pos z3, if_pos (by omega)]; exact congrArg some (by omega)
      · rw [if_neg z3, c_is h (j := 18) (by decide) (show (491496238692 : Int) = (enc 256 (wdC 18) : Nat) by decide), Option.bind_some, w32_b2i, ite_b2i]
        by_cases z5 : m.1 4 = 4 ∧ m.1 7 = ((18 : Nat) : Int)
        · rw [if_pos z5, if_pos (by omega)]; exact congrArg some (by omega)
        · rw [if_neg z5, c_is h (j := 19) (by decide) (show (465557353332 : Int) = (enc 256 (wdC 19) : Nat) by decide), Option.bind_some, w32_b2i, ite_b2i]
          by_cases z6 : m.1 4 = 4 ∧ m.1 7 = ((19 : Nat) : Int)
          · rw [if_pos z6, if_pos (by omega)]; exact congrArg some (by omega)
          · rw [if_neg z6, if_neg (by omega)]
theorem item7 {G : CG} {L : Ly} {r a N0 : Nat} {κ : Nat → Nat} {t : Sg} {m : Mu} {W : Wv} (h : IX G L r a N0 κ t m W) : ITM G L r a N0 t m (f7_item G (some r) t) (m5_readStatement m) := by
  obtain ⟨⟨hR, hc, h287, h286⟩, hWB, hCV, ⟨h51, h46, hJ⟩, hSt, hN⟩ := id h
  obtain ⟨k1, k2⟩ := tk_w hR.2.2.1
  have thr2 : ITM G L r a N0 t m (bdU (zNew t 9 8) fun q5 => (gfI q5.2 8 282 (some r)).bind fun x6 => (f8_init G (some q5.1) 2 x6 q5.2).bind fun u7 => xth q5.1 u7) ((m5_cannot m).bind fun u1 => some u1) := by
    right
    obtain ⟨t', e, hth⟩ := c_throw (α := Unit) hR 2
    obtain ⟨m', em, hm⟩ := m_cannot hR.2.2.2.2.2 k1.2.2.1
    rw [if_neg (show ¬ m.1 4 = 5 by have := k1.2.1; omega)] at hm
    rw [em]
    exact ⟨_, t', 1, 8, 2, m.1 5, m', e, THI_tr FRo_rf ⟨hN.2.2.2.1, hN.2.2.2.2⟩ (Int.le_refl _) hth (by omega) (by omega), rfl, MFI_B (Or.inl hm)⟩
  have m1n : ¬ (0 : Int) ≤ -1 := by omega
  have wm1 : w32 (-1) = -1 := w32_id (by omega) (by omega)
  have b193n : f7_item_b193 G (some r) (-1) t = (bdU (zNew t 9 8) fun q5 => (gfI q5.2 8 282 (some r)).bind fun x6 => (f8_init G (some q5.1) 2 x6 q5.2).bind fun u7 => xth q5.1 u7) := by
    unfold f7_item_b193
    simp only [wm1, if_neg m1n]
  unfold f7_item m5_readStatement m5_readStatement_b194
  simp only [ztg_e hR.1.1.1, Option.bind_some]
  rw [c_is hR (j := 0) (by decide) (show (1717658484 : Int) = (enc 256 (wdC 0) : Nat) by decide), Option.bind_some, w32_b2i, ite_b2i, k1.2.2.1]
  by_cases h4 : m.1 4 = 4
  · have w7 : w32 (m.1 7) = m.1 7 := (k2 (by omega)).1
    have p7 : 0 ≤ m.1 7 := (k2 (by omega)).2
    rw [if_pos h4, w7]
    by_cases z0 : m.1 7 = 0
    · rw [if_pos z0, if_pos (show m.1 4 = 4 ∧ m.1 7 = ((0 : Nat) : Int) from ⟨h4, z0⟩)]
      exact ITM_id (fact7 h h4)
    · rw [if_neg z0, if_neg (show ¬ (m.1 4 = 4 ∧ m.1 7 = ((0 : Nat) : Int)) from fun q => z0 q.2), c_is hR (j := 5) (by decide) (show (1835360622 : Int) = (enc 256 (wdC 5) : Nat) by decide), Option.bind_some, w32_b2i, ite_b2i]
      by_cases z5 : m.1 7 = 5
      · rw [if_pos z5, if_pos (show m.1 4 = 4 ∧ m.1 7 = ((5 : Nat) : Int) from ⟨h4, z5⟩)]
        exact ITM_id (mean7 h h4)
      · rw [if_neg z5, if_neg (show ¬ (m.1 4 = 4 ∧ m.1 7 = ((5 : Nat) : Int)) from fun q => z5 q.2), c_isCl hR, Option.bind_some, m_isCl hR, Option.bind_some]
        by_cases zc : 6 ≤ m.1 7 ∧ m.1 7 ≤ 8
        · have hcl : (if m.1 4 = 4 ∧ 6 ≤ m.1 7 ∧ m.1 7 ≤ 8 then (1 : Int) else 0) = 1 := if_pos ⟨h4, zc⟩
          rw [hcl, show w32 1 = 1 from rfl, if_neg (show ¬ (1 : Int) = 0 by decide), if_neg (show ¬ (1 : Int) = 0 by decide)]
          have key := clause7 (kd := (m.1 7 - 6).toNat) h h4 (by omega) (by omega)
          simp only [ztg_e hR.1.1.1, Option.bind_some] at key
          exact key
        · have hcl : (if m.1 4 = 4 ∧ 6 ≤ m.1 7 ∧ m.1 7 ≤ 8 then (1 : Int) else 0) = 0 := if_neg (fun q => zc q.2)
          rw [hcl, show w32 0 = 0 from rfl, if_pos (show (0 : Int) = 0 from rfl), if_pos (show (0 : Int) = 0 from rfl), c_is hR (j := 9) (by decide) (show (439855772532 : Int) = (enc 256 (wdC 9) : Nat) by decide), Option.bind_some, w32_b2i, ite_b2i]
          by_cases z9 : m.1 7 = 9
          · rw [if_pos z9, if_pos (show m.1 4 = 4 ∧ m.1 7 = ((9 : Nat) : Int) from ⟨h4, z9⟩)]
            have key := sum7 h h4 (i := 0) (j := 245) (hi := 99999999) (Or.inl ⟨rfl, rfl, rfl⟩)
            unfold m5_readStatement_b93 m5_readStatement_b104
            rw [gfR_v hR.1.1.1 h286, Option.bind_some, Option.bind_some, gfI_v hWB.1.1.2.1 hWB.2.2.2.2.2.2.2.1.1, Option.bind_some, z9, if_pos (show w32 9 = 9 from rfl)]
            have e9 : (if w32 9 = 9 then m5_readStatement_b149 0 0 99999999 else m5_readStatement_b149 0 0 1000) = m5_readStatement_b149 0 0 99999999 := if_pos rfl
            simp only [if_pos (show w32 9 = 9 from rfl)]
            exact key
          · rw [if_neg z9, if_neg (show ¬ (m.1 4 = 4 ∧ m.1 7 = ((9 : Nat) : Int)) from fun q => z9 q.2), c_is hR (j := 10) (by decide) (show (495672455781 : Int) = (enc 256 (wdC 10) : Nat) by decide), Option.bind_some, w32_b2i, ite_b2i]
            by_cases z10 : m.1 7 = 10
            · rw [if_pos z10, if_pos (show m.1 4 = 4 ∧ m.1 7 = ((10 : Nat) : Int) from ⟨h4, z10⟩)]
              have key := sum7 h h4 (i := 1) (j := 246) (hi := 1000) (Or.inr ⟨rfl, rfl, rfl⟩)
              unfold m5_readStatement_b93 m5_readStatement_b104
              rw [gfR_v hR.1.1.1 h286, Option.bind_some, Option.bind_some, gfI_v hWB.1.1.2.1 hWB.2.2.2.2.2.2.2.1.2.1, Option.bind_some, z10]
              simp only [if_neg (show ¬ w32 10 = 9 by rw [show w32 10 = 10 from rfl]; decide)]
              exact key
            · rw [if_neg z10, if_neg (show ¬ (m.1 4 = 4 ∧ m.1 7 = ((10 : Nat) : Int)) from fun q => z10 q.2), c_is hR (j := 11) (by decide) (show (1836020596 : Int) = (enc 256 (wdC 11) : Nat) by decide), Option.bind_some, w32_b2i, ite_b2i]
              by_cases z11 : m.1 7 = 11
              · rw [if_pos z11, if_pos (show m.1 4 = 4 ∧ m.1 7 = ((11 : Nat) : Int) from ⟨h4, z11⟩), bind_id7]
                exact ITM_id (most7 h h4)
              · rw [if_neg z11, if_neg (show ¬ (m.1 4 = 4 ∧ m.1 7 = ((11 : Nat) : Int)) from fun q => z11 q.2), gfI_v hR.1.1.1 k1.2.2.2, Option.bind_some, k1.2.2.1, if_pos h4, c_prK hR h4, Option.bind_some]
                by_cases zp : 15 ≤ m.1 7 ∧ m.1 7 ≤ 19
                · rw [if_pos zp, if_neg (show ¬ m.1 7 < 15 by omega), if_neg (show ¬ 19 < m.1 7 by omega), bind_id7]
                  unfold f7_item_b193
                  rw [w32_id (x := m.1 7 - 15) (by omega) (by omega), if_pos (show 0 ≤ m.1 7 - 15 by omega), ztg_e hR.1.1.1, Option.bind_some]
                  have key := price7 (kd := (m.1 7 - 15).toNat) h h4 (by omega) (by omega)
                  rw [show (((m.1 7 - 15).toNat : Nat) : Int) = m.1 7 - 15 by omega] at key
                  exact ITM_id key
                · rw [if_neg zp, b193n]
                  by_cases zq : m.1 7 < 15
                  · rw [if_pos zq]; exact thr2
                  · rw [if_neg zq, if_pos (show 19 < m.1 7 by omega)]; exact thr2
  · have hcl : (if m.1 4 = 4 ∧ 6 ≤ m.1 7 ∧ m.1 7 ≤ 8 then (1 : Int) else 0) = 0 := if_neg (fun q => h4 q.1)
    rw [if_neg h4, if_neg (show ¬ (m.1 4 = 4 ∧ m.1 7 = ((0 : Nat) : Int)) from fun q => h4 q.1), c_is hR (j := 5) (by decide) (show (1835360622 : Int) = (enc 256 (wdC 5) : Nat) by decide), Option.bind_some, w32_b2i, ite_b2i, if_neg (show ¬ (m.1 4 = 4 ∧ m.1 7 = ((5 : Nat) : Int)) from fun q => h4 q.1), c_isCl hR, Option.bind_some, hcl, show w32 0 = 0 from rfl, if_pos (show (0 : Int) = 0 from rfl), c_is hR (j := 9) (by decide) (show (439855772532 : Int) = (enc 256 (wdC 9) : Nat) by decide), Option.bind_some, w32_b2i, ite_b2i, if_neg (show ¬ (m.1 4 = 4 ∧ m.1 7 = ((9 : Nat) : Int)) from fun q => h4 q.1), c_is hR (j := 10) (by decide) (show (495672455781 : Int) = (enc 256 (wdC 10) : Nat) by decide), Option.bind_some, w32_b2i, ite_b2i, if_neg (show ¬ (m.1 4 = 4 ∧ m.1 7 = ((10 : Nat) : Int)) from fun q => h4 q.1), c_is hR (j := 11) (by decide) (show (1836020596 : Int) = (enc 256 (wdC 11) : Nat) by decide), Option.bind_some, w32_b2i, ite_b2i, if_neg (show ¬ (m.1 4 = 4 ∧ m.1 7 = ((11 : Nat) : Int)) from fun q => h4 q.1), gfI_v hR.1.1.1 k1.2.2.2, Option.bind_some, k1.2.2.1, if_neg h4, b193n]
    exact thr2

/-! THE READER: a clause as an item -/
theorem bind_id7 {α : Type} (x : Option α) : (x.bind fun u => some u) = x := by cases x <;> rfl
theorem clause7 {G : CG} {L : Ly} {r a N0 kd : Nat} {κ : Nat → Nat} {t : Sg} {m : Mu} {W : Wv} (h : IX G L r a N0 κ t m W) (h4 : m.1 4 = 4) (hkd : kd < 3) (h7 : m.1 7 = 6 + (kd : Int)) : ITM G L r a N0 t m ((gfR t 8 286 (some r)).bind fun x40 => (gfR t 7 243 x40).bind fun x41 => (ztg t 6 x41).bind fun b42 => (fJ2_size G (some b42) t).bind fun x43 => if w32 x43 = 24 then (bdU (zNew t 9 8) fun q52 => (gfI q52.2 8 282 (some r)).bind fun x53 => (f8_init G (some q52.1) 6 x53 q52.2).bind fun u54 => xth q52.1 u54) else (gfR t 8 286 (some r)).bind fun x44 => (gfR t 7 243 x44).bind fun x45 => (ztg t 8 (some r)).bind fun b46 => bdU (f7_clause G (some b46) t) fun q47 => tel q47.1 (fun e48 => xth e48 q47.2) fun x49 => (ztg q47.2 6 x45).bind fun b50 => bdU (fJ2_add G (some b50) x49 q47.2) fun q51 => some ((.inr (), q51.2), 0, 0)) (if w32 (m.1 56) = 24 then (m5_wrong 6 m).bind fun u10 => some u10 else (m5_readClause m).bind fun u9 => some u9) := by
  obtain ⟨⟨hR, hc, h287, h286⟩, hWB, hCV, ⟨h51, h46, hJ⟩, hSt, hN⟩ := id h
  obtain ⟨eq, ⟨l, b, q1, q2, q3, q4, q5, q6, q7⟩, Qq⟩ := hWB.2.2.2.2.2.1
  have b56 : 0 ≤ m.1 56 := hWB.2.1.2.2.2.2.2.2.2.1
  have b56' : m.1 56 ≤ 24 := hWB.2.1.2.2.2.2.2.2.2.2.1
  rw [gfR_v hR.1.1.1 h286, Option.bind_some, gfR_v hWB.1.1.2.1 q1, Option.bind_some, ztg_e q2.1, Option.bind_some, J_size q2, Option.bind_some, w32_n (by omega), w32_id (x := m.1 56) (by omega) (by omega)]
  by_cases z : m.1 56 = 24
  · rw [if_pos (by omega), if_pos z]
    right
    obtain ⟨t', e, hth⟩ := c_throw (α := Unit) hR 6
    obtain ⟨m', em, hm, -⟩ := m_wrong hR.2.2.2.2.2 6
    rw [em]
    exact ⟨_, t', 1, 8, 6, m.1 5, m', e, THI_tr FRo_rf ⟨hN.2.2.2.1, hN.2.2.2.2⟩ (Int.le_refl _) hth (by omega) (by omega), rfl, MFI_B (Or.inl hm)⟩
  · rw [if_neg (by omega), if_neg z, Option.bind_some, gfR_v hWB.1.1.2.1 q1, Option.bind_some, ztg_e hR.1.1.1, Option.bind_some, bind_id7]
    have eK : f7_clause G (some r) t = f7_clause_b29 G (some r) kd t := by
      unfold f7_clause
      rw [ztg_e hR.1.1.1, Option.bind_some, c_is hR (j := 6) (by decide) (show (427071792498 : Int) = (enc 256 (wdC 6) : Nat) by decide), Option.bind_some, w32_b2i, Option.bind_some, c_is hR (j := 7) (by decide) (show (465557354085 : Int) = (enc 256 (wdC 7) : Nat) by decide), Option.bind_some, w32_b2i]
      have hk3 : kd = 0 ∨ kd = 1 ∨ kd = 2 := by omega
      rcases hk3 with rfl | rfl | rfl
      · rw [decide_eq_true (show m.1 4 = 4 ∧ m.1 7 = ((6 : Nat) : Int) from ⟨h4, h7⟩), if_neg (by decide)]; rfl
      · rw [decide_eq_false (show ¬ (m.1 4 = 4 ∧ m.1 7 = ((6 : Nat) : Int)) by omega), if_pos (by rfl), decide_eq_true (show m.1 4 = 4 ∧ m.1 7 = ((7 : Nat) : Int) from ⟨h4, h7⟩), if_neg (by decide)]; rfl
      · rw [decide_eq_false (show ¬ (m.1 4 = 4 ∧ m.1 7 = ((6 : Nat) : Int)) by omega), if_pos (by rfl), decide_eq_false (show ¬ (m.1 4 = 4 ∧ m.1 7 = ((7 : Nat) : Int)) by omega), if_pos (by rfl)]; rfl
    rw [eK]
    exact clause_b h h4 hkd h7 (by omega) q1

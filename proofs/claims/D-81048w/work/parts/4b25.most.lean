/-! THE READER: most, whole -/
theorem most7 {G : CG} {L : Ly} {r a N0 : Nat} {κ : Nat → Nat} {t : Sg} {m : Mu} {W : Wv} (h : IX G L r a N0 κ t m W) (h4 : m.1 4 = 4) : ITM G L r a N0 t m (f7_most G (some r) t) (m5_readMost m) := by
  obtain ⟨⟨hR, hc, h287, h286⟩, hWB, hCV, ⟨h51, h46, hJ⟩, hSt, hN⟩ := id h
  unfold f7_most m5_readMost
  rw [ztg_e hR.1.1.1, Option.bind_some]
  obtain ⟨m1, n1, n2, n3⟩ := next8 hR (by omega) (by omega)
  rw [n1, Option.bind_some]
  have MI1 : MI m m1 := MI_7 n2
  -- the twin once it has a fault, or a bad token
  have fin : ∀ (x : Int) (m2 : Mu) (K P : Int), 1 ≤ K ∧ K ≤ 6 → MFI m m2 K P → m5_wantsNumber 0 99999999 m1 = some (x, m2) → ∃ m', ((m5_wantsNumber 0 99999999 m1).bind fun q2 => if w32 (q2.2.1 8) ≤ 0 then (m5_isWord 12 q2.2).bind fun x3 => if w32 x3 = 0 then (m5_isWord 13 q2.2).bind fun x4 => if w32 x4 = 0 then (m5_isWord 14 q2.2).bind fun x5 => if w32 x5 = 0 then m5_readMost_b61 q2.1 (-1) q2.2 else m5_readMost_b61 q2.1 4 q2.2 else m5_readMost_b61 q2.1 3 q2.2 else m5_readMost_b61 q2.1 2 q2.2 else some q2.2) = some m' ∧ MFI m m' K P := fun x m2 K P hK hm e => by
    rw [e, Option.bind_some]
    dsimp only
    obtain ⟨h1 | ⟨rfl, h2, h3, h4⟩, h5⟩ := hm
    · refine ⟨m2, ?_, Or.inl h1, h5⟩
      rw [h1.1, w32_id (x := K) (by omega) (by omega), if_neg (by omega)]
    · obtain ⟨m', em, hmf⟩ := m_cannot h2 (by rw [h3]; decide)
      rw [if_pos h3, h4] at hmf
      refine ⟨m', ?_, Or.inl ⟨hmf.1, hmf.2.1⟩, MI_tr h5 (MI_7 hmf.2.2)⟩
      rw [h2, if_pos (by decide), m_isWq _ (by decide) (by rw [h3]; decide) (fun q => by omega), Option.bind_some, decide_eq_false (by omega), if_pos (by rfl), m_isWq _ (by decide) (by rw [h3]; decide) (fun q => by omega), Option.bind_some, decide_eq_false (by omega), if_pos (by rfl), m_isWq _ (by decide) (by rw [h3]; decide) (fun q => by omega), Option.bind_some, decide_eq_false (by omega), if_pos (by rfl)]
      unfold m5_readMost_b61
      rw [if_neg (by decide), em]; rfl
  rcases n3 with ⟨t1, p1, p2⟩ | ⟨e, t1, p1, p2, p3, p4, p5, p6⟩
  · have hI1 := IX_n h p2
    rw [p1, te_ok]
    dsimp only
    rw [ztg_e p2.1.1.1.1, Option.bind_some]
    have fr1 := p2.2.2.1
    have lt1 := p2.2.2.2.2.2.1
    have FR1 : FRo N0 t t1 := FRo_7 hN.2.2.2.1 hN.2.2.2.2 fr1
    have hN1 : N0 ≤ zN t1 ∧ N0 ≤ r := ⟨hI1.2.2.2.2.2.2.2.2.1, hN.2.2.2.2⟩
    obtain ⟨x, m2, k1, k2⟩ := number7 p2.1 (by have := p2.2.1; omega) (lo := 0) (hi := 99999999) (by omega) (by omega)
    rcases k2 with ⟨t2, s1, s2, s3, s4⟩ | ⟨e, t2, K, P, s1, s2, s3⟩
    · have hI2 := IX_n hI1 s2
      rw [s1, te_ok, k1, Option.bind_some]
      dsimp only
      have R2 := s2.1
      have lt2 := s2.2.2.2.2.2.1
      have FR2 : FRo N0 t t2 := FRo_tr FR1 (FRo_7 hN1.1 hN1.2 s2.2.2.1)
      have MI2 : MI m m2 := MI_tr MI1 (MI_7 ⟨fun k hk => s2.2.2.2.2.2.2.2 k (by simp only [CS7, List.mem_cons, List.not_mem_nil, or_false] at hk; omega), fun k _ => by rw [s2.2.2.2.2.2.2.1]⟩)
      rw [ztg_e R2.1.1.1, Option.bind_some, Option.bind_some, Option.bind_some, c_is R2 (j := 12) (by decide) (show (435778055796 : Int) = (enc 256 (wdC 12) : Nat) by decide), Option.bind_some, c_is R2 (j := 13) (by decide) (show (2036687218 : Int) = (enc 256 (wdC 13) : Nat) by decide), Option.bind_some, c_is R2 (j := 14) (by decide) (show (6384748 : Int) = (enc 256 (wdC 14) : Nat) by decide), Option.bind_some, R2.2.2.2.2.2, if_pos (show w32 0 ≤ 0 by decide), m_w7 R2 _ (by decide), Option.bind_some, m_w7 R2 _ (by decide), Option.bind_some, m_w7 R2 _ (by decide), Option.bind_some, w32_b2i, w32_b2i, w32_b2i, w32_b2i, w32_b2i, w32_b2i]
      refine ITM_pre FR2 MI2 (by omega) ?_
      by_cases y12 : m2.1 4 = 4 ∧ m2.1 7 = 12
      · rw [decide_eq_true (show m2.1 4 = 4 ∧ m2.1 7 = ((12 : Nat) : Int) from y12), decide_eq_true y12, if_neg (show ¬ b2i true = 0 by decide), if_neg (show ¬ b2i true = 0 by decide)]
        exact most_end hI2 y12.1 (i := 0) (by omega) ⟨s3, s4⟩
      · rw [decide_eq_false (show ¬ (m2.1 4 = 4 ∧ m2.1 7 = ((12 : Nat) : Int)) from y12), decide_eq_false y12, if_pos (show b2i false = 0 from rfl), if_pos (show b2i false = 0 from rfl)]
        by_cases y13 : m2.1 4 = 4 ∧ m2.1 7 = 13
        · rw [decide_eq_true (show m2.1 4 = 4 ∧ m2.1 7 = ((13 : Nat) : Int) from y13), decide_eq_true y13, if_neg (show ¬ b2i true = 0 by decide), if_neg (show ¬ b2i true = 0 by decide)]
          exact most_end hI2 y13.1 (i := 1) (by omega) ⟨s3, s4⟩
        · rw [decide_eq_false (show ¬ (m2.1 4 = 4 ∧ m2.1 7 = ((13 : Nat) : Int)) from y13), decide_eq_false y13, if_pos (show b2i false = 0 from rfl), if_pos (show b2i false = 0 from rfl)]
          by_cases y14 : m2.1 4 = 4 ∧ m2.1 7 = 14
          · rw [decide_eq_true (show m2.1 4 = 4 ∧ m2.1 7 = ((14 : Nat) : Int) from y14), decide_eq_true y14, if_neg (show ¬ b2i true = 0 by decide), if_neg (show ¬ b2i true = 0 by decide)]
            exact most_end hI2 y14.1 (i := 2) (by omega) ⟨s3, s4⟩
          · rw [decide_eq_false (show ¬ (m2.1 4 = 4 ∧ m2.1 7 = ((14 : Nat) : Int)) from y14), decide_eq_false y14, if_pos (show b2i false = 0 from rfl), if_pos (show b2i false = 0 from rfl)]
            right
            obtain ⟨t', e, hth⟩ := c_throw (α := Unit) R2 2
            obtain ⟨kk1, -⟩ := tk_w R2.2.2.1
            obtain ⟨m', em, hm⟩ := m_cannot R2.2.2.2.2.2 kk1.2.2.1
            rw [if_neg (show ¬ m2.1 4 = 5 by omega)] at hm
            refine ⟨_, t', 1, 8, 2, m2.1 5, m', ?_, THI_tr FRo_rf ⟨hI2.2.2.2.2.2.2.2.2.1, hN.2.2.2.2⟩ (Int.le_refl _) hth (by omega) (by omega), ?_, MFI_B (Or.inl hm)⟩
            · unfold f7_most_b56
              rw [if_neg (by decide)]; exact e
            · unfold m5_readMost_b61
              rw [if_neg (by decide), em]; rfl
    · right
      obtain ⟨m', e1, e2⟩ := fin x m2 K P s2.2.1.2 (MFI_tr MI1 (MFI_B s3)) k1
      exact ⟨e, t2, 1, 8, K, P, m', by rw [s1, xt_tel s2.1], THI_tr FR1 hN1 (by omega) s2 (by omega) (by omega), e1, e2⟩
  · right
    obtain ⟨m2, z1, z2⟩ := wN_b (lo := 0) (hi := 99999999) p4 p3
    obtain ⟨m', e1, e2⟩ := fin 0 m2 1 (m1.1 5) (by decide) ⟨Or.inl ⟨z2.1, z2.2.1⟩, MI_tr MI1 (MI_7 z2.2.2)⟩ z1
    exact ⟨e, t1, 1, 8, 1, m1.1 5, m', by rw [p1, xt_tel p2.1], THI_tr FRo_rf ⟨hN.2.2.2.1, hN.2.2.2.2⟩ (Int.le_refl _) p2 (by omega) (by omega), e1, e2⟩

/-! THE READER: bounds of sums (most) -/
theorem ITM_pre {G : CG} {L : Ly} {r a N0 : Nat} {t t2 : Sg} {m m2 : Mu} {X : Option (((Nat ⊕ Unit) × Sg) × Nat × Nat)} {Y : Option Mu} (h1 : FRo N0 t t2) (h2 : MI m m2) (h3 : m.1 5 ≤ m2.1 5) (h : ITM G L r a N0 t2 m2 X Y) : ITM G L r a N0 t m X Y := by
  rcases h with ⟨t', cc, nn, m', κ', W', x1, x2, x3, x4, x5, x6, x7, x8, x9⟩ | ⟨e, t', cc, nn, K, P, m', x1, ⟨q1, q2, q3, q4, q5, q6, q7, q8⟩, x3, x4⟩
  · exact Or.inl ⟨t', cc, nn, m', κ', W', x1, x2, x3, FRo_tr h1 x4, MI_tr h2 x5, ⟨by omega, by omega, by omega, by omega⟩⟩
  · exact Or.inr ⟨e, t', cc, nn, K, P, m', x1, ⟨q1, q2, q3, q4, FRo_tr h1 q5, by omega, by omega, by omega⟩, x3, MFI_tr h2 x4⟩
/-- the bound number i, the word for it at hand -/
theorem most_end {G : CG} {L : Ly} {r a N0 : Nat} {κ : Nat → Nat} {t : Sg} {m : Mu} {W : Wv} (h : IX G L r a N0 κ t m W) (h4 : m.1 4 = 4) {i : Nat} (hi3 : i < 3) {x : Int} (hx : 0 ≤ x ∧ x ≤ 99999999) : ITM G L r a N0 t m (f7_most_b56 G (some r) x i t) (m5_readMost_b61 x ((2 + i : Nat) : Int) m) := by
  obtain ⟨⟨hR, hc, h287, h286⟩, hWB, hCV, ⟨h51, h46, hJ⟩, hSt, hN⟩ := id h
  obtain ⟨S1, S2, S3, S4, d, S5, S6, S7, S8, S9⟩ := hWB.2.2.2.2.2.2.2.1
  obtain ⟨⟨o1, o2, o3⟩, o4, o5, o6, o7⟩ := hWB.1
  have hsl : slc m 0 = W := hWB.2.1.1
  have e32 : mald m 32 70 ((2 + i : Nat) : Int) = some (W 32 (2 + i)) := by
    rw [mald_e (2 + i) rfl (by omega) (by omega), ← hsl]
    show _ = some (if 2 + i < 5 then m.2 32 (5 * 0 + (2 + i)) else 0)
    rw [if_pos (by omega), show 5 * 0 + (2 + i) = 2 + i by omega]
  obtain ⟨Si, hsm⟩ := S9 i hi3
  have w32x : w32 (W 32 (2 + i)) = W 32 (2 + i) := by
    rcases hsm with q | q
    · rw [q]; decide
    · exact w32_id (by omega) (by omega)
  unfold f7_most_b56 m5_readMost_b61 m5_readSum
  rw [w32_n (n := i) (by omega), if_pos (by omega), w32_n (n := 2 + i) (by omega), if_pos (by omega), gfR_v hR.1.1.1 h286, Option.bind_some, gfR_v o2 S5, Option.bind_some, alI_e i S7 rfl (by omega) (by omega), Option.bind_some, Si, e32, Option.bind_some, w32x]
  rcases hsm with q | q
  · rw [if_pos (show W 32 (2 + i) < 0 by omega), if_pos q, ztg_e hR.1.1.1, Option.bind_some, mast_e (2 + i) rfl (by omega) (by omega), Option.bind_some]
    obtain ⟨m3, hm3⟩ : ∃ m3, m3 = ma m 32 (2 + i) x := ⟨_, rfl⟩
    rw [← hm3]
    have e31 : m3.1 = m.1 := by rw [hm3]; rfl
    have R3 : R7 G L t m3 r := R7_a hR e31 (by rw [hm3, ma_o (by decide)]) (by rw [hm3, ma_o (by decide)])
    have MI3 : MI m m3 := by rw [hm3]; exact MI_ma (by decide) (Or.inr (by show 2 + i < 5; omega))
    obtain ⟨m4, n1, n2, n3⟩ := next8 R3 (by rw [e31]; omega) (by rw [e31]; omega)
    rw [n1, Option.bind_some]
    rw [e31] at n3
    rcases n3 with ⟨t1, p1, p2⟩ | ⟨e, t1, p1, p2, p3, p4, p5, p6⟩
    · rw [p1, te_ok]
      dsimp only
      obtain ⟨f1, f2, f3, f4, f5, f6, f7, f8⟩ := p2
      rw [e31] at f6
      rw [ztg_e f1.1.1.1, Option.bind_some]
      have FR1 : FRo N0 t t1 := FRo_7 hN.2.2.2.1 hN.2.2.2.2 f3
      have hN1 : N0 ≤ zN t1 ∧ N0 ≤ r := ⟨by omega, hN.2.2.2.2⟩
      have MI4 : MI m m4 := MI_tr MI3 (MI_7 n2)
      obtain ⟨m5, v1, v2⟩ := want7 f1 (by omega) (j := 6) (by decide) (l := 59) (v := 6) rfl rfl
      rw [v1, Option.bind_some, Option.bind_some]
      rcases v2 with ⟨t3, u1, u2⟩ | ⟨e, t3, K, P, u1, u2, u3⟩
      · left
        rw [u1, te_ok]
        dsimp only
        obtain ⟨g1, g2, g3, g4, g5, g6, g7, g8⟩ := u2
        have hane : a ≠ r := fun e => by rw [e, o3] at o1; exact absurd o1 (by decide)
        have fr3 : fr7 r t t3 := fr7_tr f3 g3
        have haN : a < zN t := o4 a (by rw [o1]; decide)
        have hdN : d < zN t := o4 d (by rw [S6]; decide)
        have hdr : d ≠ r := fun e => by rw [e, o3] at S6; exact absurd S6 (by decide)
        have hda : d ≠ a := fun e => by rw [e, o1] at S6; exact absurd S6 (by decide)
        have sa := fr3.2.1 a haN hane
        have sd := fr3.2.1 d hdN hdr
        have hN0d : N0 ≤ d := k25 o5 o6 d (by rw [S6]; decide)
        obtain ⟨t4, ht4⟩ : ∃ t4, t4 = zsA t3 d i x := ⟨_, rfl⟩
        have ePf : asI G.2.2.2.1 t3 1 (some d) i x = some t4 := by
          rw [ht4]
          exact asI_e i (by rw [sd.1]; exact S7) (by show G0 G ≤ d; omega) rfl (by rw [sd.2.1, S8]; exact hi3) (by rw [sd.2.1, S8]; omega)
        have hgr : gro t t4 := by rw [ht4]; exact fr3.1
        have s4q : ∀ q, q ≠ d → sam t3 t4 q := fun q hq => by rw [ht4]; exact sam_zsA sam_rf hq
        have R4 : R7 G L t4 m5 r := R7_z g1 (fun q hq => s4q q (by rcases hq with rfl | rfl | rfl | rfl <;> omega)) (by rw [ht4]; exact gro_rf)
        have s24 : ∀ q, q < zN t → q ≠ d → q ≠ r → sam t t4 q := fun q h1 h2 h3 => sam_tr (fr3.2.1 q h1 h3) (s4q q h2)
        have FR4 : FRo N0 t t4 := ⟨hgr, fun q hq => s24 q (by omega) (by omega) (by omega)⟩
        obtain ⟨W', hW'⟩ : ∃ W', W' = slc m5 0 := ⟨_, rfl⟩
        have a52 : m5.2 = m3.2 := by rw [g7, f7]
        have eW : W' = fun k' j' => if k' = 32 ∧ j' = 2 + i then x else W k' j' := by
          rw [hW', ← hsl, ← slc_m0 (m := m) (k := 32) (i := 2 + i) (v := x) (by show 2 + i < 5; omega), ← hm3]
          funext k' j'
          unfold slc
          rw [a52]
        have hWo : ∀ k, k ≠ 32 → W' k = W k := fun k hk => by rw [eW]; funext j'; exact if_neg (fun q => hk q.1)
        have hW32 : ∀ j', j' ≠ 2 + i → W' 32 j' = W 32 j' := fun j' hj => by rw [eW]; exact if_neg (fun q => hj q.2)
        have hW32i : W' 32 (2 + i) = x := by rw [eW]; exact if_pos ⟨rfl, rfl⟩
        have e5 : ∀ k, (k < 3 ∨ 7 < k) → m5.1 k = m.1 k := fun k hk => by rw [g8 k hk, f8 k hk, e31]
        have e46 : m5.1 46 = m.1 46 := e5 46 (by omega)
        have e56 : m5.1 56 = m.1 56 := e5 56 (by omega)
        have a42 : ∀ k, k ≠ 32 → m5.2 k = m.2 k := fun k hk => by rw [a52, hm3, ma_o hk]
        have sa4 := s24 a haN (fun e => hda e.symm) hane
        have hWB4 : WB G r a N0 κ t4 m5 W' := by
          refine WB_s hgr (fun q h1 h2 h3 h4 => s24 q (o4 q h1) (fun e => h4 (by rw [e]; exact S6)) (fun e => h3 (by rw [e]; exact o3))) ⟨by rw [sa4.1]; exact o2, sa4.2.2.2.1, by rw [sa4.2.2.1]⟩ (fun d' hd' => ?_) hW'.symm hWo e56 ⟨by rw [e46]; exact Int.le_refl _, fun k _ => nd_of (fun k hk => a42 k (by omega)) k⟩ (fun n _ => by rw [a42 53 (by decide), a42 54 (by decide), a42 55 (by decide)]; exact ⟨rfl, rfl, rfl⟩) ⟨by rw [sa4.2.2.1, hW32 0 (by omega)]; exact S1, by rw [sa4.2.2.1, hW32 1 (by omega)]; exact S2, by rw [hW32 0 (by omega)]; exact S3, by rw [hW32 1 (by omega)]; exact S4⟩ (fun d' hd' k hk => ?_) hWB
          · have hr' : d' ≠ r := fun e => by rw [e, o3] at hd'; exact absurd hd' (by decide)
            have s1 := fr3.2.1 d' (o4 d' (by rw [hd']; decide)) hr'
            rw [ht4]
            exact ⟨s1.1, s1.2.1⟩
          · rw [S5] at hd'
            cases hd'
            rw [ht4, zsA_A, sd.2.2.2.2.1]
            by_cases z : k = i
            · rw [if_pos ⟨rfl, z⟩, z, hW32i]
              exact ⟨rfl, Or.inr hx⟩
            · rw [if_neg (fun q => z q.2), hW32 (2 + k) (by omega)]
              exact S9 k hk
        have hCV4 : CVR m5 W' (m5.1 46) := by
          unfold CVR SMS at hCV ⊢
          have eM : nM W' = nM W := by show (W' 19 0).toNat = _; rw [hWo 19 (by decide)]
          have eP : nP W' = nP W := by show (W' 27 0).toNat = _; rw [hWo 27 (by decide)]
          rw [e46, e56, eM, eP, hWo 21 (by decide), hWo 22 (by decide), hWo 30 (by decide), hWo 31 (by decide), a42 54 (by decide), a42 55 (by decide)]
          exact hCV
        have I4 : ∀ k, zI t4 r k = zI t3 r k := fun k => by rw [ht4]; rfl
        refine ⟨t4, 0, 0, m5, κ, W', ?_, rfl, ⟨⟨R4, g2, ?_, ?_⟩, hWB4, hCV4, ⟨Z51_e h51 (e5 51 (by omega)) e46 (e5 52 (by omega)), by rw [e46]; exact h46, by rw [e46]; omega⟩, St_s hSt (fun q hq => s24 q (by omega) (by omega) (by have := hR.1.1.2.1; omega)), hN.1, hN.2.1, hN.2.2.1, by rw [ht4]; show N0 ≤ zN t3; omega, hN.2.2.2.2⟩, FR4, MI_tr MI4 (MI_7 ⟨fun k hk => g8 k (by simp only [CS7, List.mem_cons, List.not_mem_nil, or_false] at hk; omega), fun k _ => by rw [g7]⟩), ?_⟩
        · rw [gfR_v g1.1.1.1 (show zR t3 r 286 = some a by rw [fr3.2.2.2.1]; exact h286), Option.bind_some, gfR_v (show zT t3 a = 7 by rw [sa.1]; exact o2) (show zR t3 a 247 = some d by rw [sa.2.2.2.1]; exact S5), Option.bind_some, ePf, Option.bind_some]
        · rw [I4, g5 287 (by omega), f5 287 (by omega)]; exact h287
        · rw [ht4]; show zR t3 r 286 = _; rw [fr3.2.2.2.1]; exact h286
        · unfold CST; omega
      · right
        rw [u1, xt_tel u2.1]
        exact ⟨e, t3, 1, 8, K, P, m5, rfl, THI_tr FR1 hN1 (by omega) u2 (by omega) (by omega), rfl, MFI_tr MI4 (MFI_B u3)⟩
    · right
      rw [p1, xt_tel p2.1]
      obtain ⟨m5, e1, e2⟩ := wS_any (v := 6) (by decide) (by decide) (⟨Or.inr ⟨rfl, p4, p3, rfl⟩, MI_tr MI3 (MI_7 n2)⟩ : MFI m m4 1 (m4.1 5))
      rw [e1]
      exact ⟨e, t1, 1, 8, 1, m4.1 5, m5, rfl, THI_tr FRo_rf ⟨hN.2.2.2.1, hN.2.2.2.2⟩ (Int.le_refl _) p2 (by omega) (by omega), rfl, e2⟩
  · rw [if_neg (show ¬ W 32 (2 + i) < 0 by omega), if_neg (show ¬ W 32 (2 + i) = -3 by omega)]
    right
    obtain ⟨t', e, hth⟩ := c_throw (α := Unit) hR 6
    obtain ⟨m', em, hm, -⟩ := m_wrong hR.2.2.2.2.2 6
    rw [em]
    exact ⟨_, t', 1, 8, 6, m.1 5, m', e, THI_tr FRo_rf ⟨hN.2.2.2.1, hN.2.2.2.2⟩ (Int.le_refl _) hth (by omega) (by omega), rfl, MFI_B (Or.inl hm)⟩

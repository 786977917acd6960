/-! THE READER: the three kinds of facts -/
/-- a fact's cells are made, its text goes on -/
def FX (G : CG) (L : Ly) (r n b c : Nat) (t1 : Sg) (m1 : Mu) (t : Sg) (m : Mu) (x kd hi : Int) : Prop := (R7 G L t m r ∧ m.1 52 ≤ m.1 5 ∧ fr7 r t1 t ∧ zI t r 287 = 0) ∧ (MNw n m1 m ∧ m.1 4 ≠ 0) ∧ FNw t (zN t1) b c x kd 0 0 hi ∧ NM x (m.2 13 n) ∧ m.2 14 n = kd ∧ m.2 15 n = 0
theorem b208_f {m m2 : Mu} {K P : Int} (hK : 1 ≤ K ∧ K ≤ 6) (h : MFI m m2 K P) : ∃ m', m5_readFact_b208 m2 = some m' ∧ MFI m m' K P := by
  obtain ⟨m', e1, e2⟩ := wS_any (v := 6) (by decide) hK h
  exact ⟨m', by unfold m5_readFact_b208; rw [e1]; rfl, e2⟩
theorem fact_yes {G : CG} {L : Ly} {r a N0 n b c : Nat} {κ : Nat → Nat} {t1 t : Sg} {m1 m : Mu} {W : Wv} {x : Int} (IX1 : IX G L r a N0 κ t1 m1 W) (hn : n = nF W) (hn8 : n < 8) (hX : FX G L r n b c t1 m1 t m x 0 1) (h17 : m.2 17 n = 0) (h18 : m.2 18 n = 1) : ITM G L r a N0 t m ((ztg t 8 (some r)).bind fun b63 => bdU (f7_next G (some b63) t) fun q64 => tel q64.1 (fun e65 => xth e65 q64.2) fun x66 => f7_fact_b193 G (some r) (some b) q64.2) ((m5_next m).bind fun u32 => m5_readFact_b208 u32) := by
  obtain ⟨⟨hR, hc, hfr, h287⟩, ⟨hM, h4⟩, hF, hx, h14, h15⟩ := hX
  have hN := IX1.2.2.2.2.2
  have hr1 : r < zN t1 := IX1.1.1.2.1.2.1
  have hNt : N0 ≤ zN t := by have := hfr.1.1; omega
  rw [ztg_e hR.1.1.1, Option.bind_some]
  obtain ⟨m2, n1, n2, n3⟩ := next8 hR h4 (by omega)
  rw [n1, Option.bind_some]
  rcases n3 with ⟨t2, p1, p2⟩ | ⟨e, t2, p1, p2, p3, p4, p5, p6⟩
  · rw [p1, te_ok]
    dsimp only
    obtain ⟨f1, f2, f3, f4, f5, f6, f7, f8⟩ := p2
    obtain ⟨F2, sc⟩ := FNw_k hF f3 hr1
    refine ITM_tr0 (t1 := t2) (m1 := m2) (FRo_7 hNt hN.2.2.2.2 f3) (MI_7 n2) (by omega) ?_
    exact fact_end IX1 hn hn8 f1 f2 (fr7_tr hfr f3) (by rw [f5 287 (by omega)]; exact h287) (MNw_n hM (by omega) f7 f8) (x := x) (b := b) (c := c) (by rw [f7, h14, h15, h17, h18]; exact F2) (by rw [f7]; exact hx) (by rw [f7, h14, h15, h17, h18]; omega) (fun j hj => by rw [f7, h15] at hj; omega)
  · right
    rw [p1, xt_tel p2.1]
    obtain ⟨m', e1, e2⟩ := b208_f (m := m) (m2 := m2) (K := 1) (P := m2.1 5) (by decide) ⟨Or.inr ⟨rfl, p4, p3, rfl⟩, MI_7 n2⟩
    exact ⟨e, t2, 1, 8, 1, m2.1 5, m', rfl, THI_tr FRo_rf ⟨hNt, hN.2.2.2.2⟩ (Int.le_refl _) p2 (by omega) (by omega), e1, e2⟩
theorem fact_one {G : CG} {L : Ly} {r a N0 n b c : Nat} {κ : Nat → Nat} {t1 t : Sg} {m1 m : Mu} {W : Wv} {x : Int} (IX1 : IX G L r a N0 κ t1 m1 W) (hn : n = nF W) (hn8 : n < 8) (hX : FX G L r n b c t1 m1 t m x 1 0) (hMI : MI m1 m) (h5 : m1.1 5 < m.1 5) : ∃ X Y, ITM G L r a N0 t1 m1 X Y ∧ ((ztg t 8 (some r)).bind fun b56 => bdU (f7_choices G (some b56) (some b) t) fun q57 => tel q57.1 (fun e58 => xth e58 q57.2) fun x59 => f7_fact_b193 G (some r) (some b) q57.2) = X ∧ ((m5_next m).bind fun u23 => (m5_readChoices n u23).bind fun u24 => (mast u24 17 112 n 0).bind fun u25 => (mald u25 15 112 n).bind fun x26 => (mast u25 18 112 n (x26 - 1)).bind fun u27 => m5_readFact_b208 u27) = Y := by
  obtain ⟨⟨hR, hc, hfr, h287⟩, ⟨hM, h4⟩, hF, hx, h14, h15⟩ := hX
  have hN := IX1.2.2.2.2.2
  have hr1 : r < zN t1 := IX1.1.1.2.1.2.1
  have hNt : N0 ≤ zN t := by have := hfr.1.1; omega
  refine ⟨_, _, ?_, rfl, rfl⟩
  rw [ztg_e hR.1.1.1, Option.bind_some, XL_e]
  obtain ⟨m2, n1, n2, n3⟩ := next8 hR h4 (by omega)
  rw [n1, Option.bind_some]
  have CI0 : CI G L r N0 n b c x (m.2 13 n) t1 m1 t m 0 := ⟨⟨hR, hc, hfr, h287⟩, hM, hMI, hF, ⟨h14, h15, rfl⟩, by omega, fun j hj => by omega⟩
  have hts := hR.2.2.2.1.2.2
  have h50 := hR.2.2.1.2.2.1
  have hNN := NN_gt (show 10000 < 100000 by decide)
  have key := choices_l (y := m.2 13 n) hr1 ⟨by omega, by omega, by omega⟩ ⟨hN.2.2.2.1, hN.2.2.2.2⟩ IX1.1.1.2.1.1 hn8 NN NN t m m2 0 CI0 h4 n1 (by omega) (by omega)
  unfold m5_readChoices
  rw [bind_id7]
  rcases key with ⟨t', m', k, e1, e2, e3, e4⟩ | ⟨e, t', K, P, m', e1, e2, e3, e4⟩
  · rw [e1, te_ok, e2, Option.bind_some]
    dsimp only
    obtain ⟨⟨R3, c3, fr3, x287⟩, M3, MI3, F3, ⟨g14, g15, g13⟩, k6, NM3⟩ := e3
    have e415 : mald (ma m' 17 n 0) 15 112 n = some (k : Int) := by rw [mald_e n rfl (by omega) (by omega), ma_o (by decide), g15]
    rw [mast_e n rfl (by omega) (by omega), Option.bind_some, e415, Option.bind_some, mast_e n rfl (by omega) (by omega), Option.bind_some]
    obtain ⟨m4, hm4⟩ : ∃ m4, m4 = ma (ma m' 17 n 0) 18 n ((k : Int) - 1) := ⟨_, rfl⟩
    rw [← hm4]
    have e41 : m4.1 = m'.1 := by rw [hm4]; rfl
    have a4 : ∀ j, j ≠ 17 → j ≠ 18 → m4.2 j = m'.2 j := fun j h1 h2 => by rw [hm4, ma_o h2, ma_o h1]
    have g17 : m4.2 17 n = 0 := by rw [hm4, ma_o (by decide), ma_s, if_pos rfl]
    have g18 : m4.2 18 n = (k : Int) - 1 := by rw [hm4, ma_s, if_pos rfl]
    have M4 : MNw n m1 m4 := by rw [hm4]; exact MNw_a (MNw_a M3 (by omega)) (by omega)
    refine ITM_tr0 (t1 := t') (m1 := m4) (FRo_7 hN.2.2.2.1 hN.2.2.2.2 fr3) (MI_tr MI3 (by rw [hm4]; exact MI_tr (MI_ma (by decide) (Or.inr (by show n < 8; omega))) (MI_ma (by decide) (Or.inr (by show n < 8; omega))))) (by rw [e41]; exact M3.2.1) ?_
    refine fact_end IX1 hn hn8 (R7_a R3 e41 (a4 0 (by decide) (by decide)) (a4 1 (by decide) (by decide))) (by rw [e41]; exact c3) fr3 x287 M4 (x := x) (b := b) (c := c) ?_ ?_ ?_ ?_
    · rw [a4 14 (by decide) (by decide), a4 15 (by decide) (by decide), g14, g15, g17, g18]
      rw [if_neg (by omega)] at F3
      exact F3
    · rw [a4 13 (by decide) (by decide), g13]; exact hx
    · rw [a4 14 (by decide) (by decide), a4 15 (by decide) (by decide), g14, g15, g17, g18]; omega
    · intro j hj
      rw [a4 15 (by decide) (by decide), g15] at hj
      rw [a4 16 (by decide) (by decide)]
      exact NM3 j (by omega)
  · right
    have hK := e2.2.1.2
    rw [e1, xt_tel e2.1, e3, Option.bind_some, mast_e n rfl (by omega) (by omega), Option.bind_some, mald_e n rfl (by omega) (by omega), Option.bind_some, mast_e n rfl (by omega) (by omega), Option.bind_some]
    obtain ⟨m'', z1, z2⟩ := b208_f (m := m1) (K := K) (P := P) hK (MFI_ma (MFI_ma e4 (show 17 ∈ AI7 by decide) (Or.inr (show n < wid 17 from hn8)) (v := 0)) (show 18 ∈ AI7 by decide) (Or.inr (show n < wid 18 from hn8)) (v := (ma m' 17 n 0).2 15 n - 1))
    exact ⟨e, t', 1, 8, K, P, m'', rfl, e2, z1, z2⟩

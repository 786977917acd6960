/-! THE READER: sums -/
theorem R7_a {G : CG} {L : Ly} {t : Sg} {m m' : Mu} {r : Nat} (h : R7 G L t m r) (e : m'.1 = m.1) (a0 : m'.2 0 = m.2 0) (a1 : m'.2 1 = m.2 1) : R7 G L t m' r := by
  obtain ⟨h1, h2, h3, h4, h5, h6⟩ := h
  refine ⟨TX_k h1 ⟨h2.2.2.1, h2.2.2.2.1, h2.2.2.2.2.1, h2.2.2.2.2.2⟩ fr7_rf (by rw [e]) a0 a1, h2, ?_, ?_, ?_, ?_⟩
  · rw [e]; exact h3
  · rw [e]; exact h4
  · rw [e]; exact h5
  · rw [e]; exact h6
theorem R7_z {G : CG} {L : Ly} {u u2 : Sg} {m : Mu} {r : Nat} (h : R7 G L u m r) (hs : ∀ q, q = r ∨ q = L.1 3 ∨ q = L.1 100 ∨ q = L.1 101 → sam u u2 q) (hg : gro u u2) : R7 G L u2 m r := by
  obtain ⟨h1, h2, h3, h4, h5, h6⟩ := h
  obtain ⟨⟨a1, a2, a3, a4⟩, ⟨b1, b2, b3, b4, b5, b6, b7, b8⟩, ⟨c1, c2, c3, c4⟩⟩ := h1
  have sr := hs r (Or.inl rfl)
  have s3 := hs _ (Or.inr (Or.inl rfl))
  have s0 := hs _ (Or.inr (Or.inr (Or.inl rfl)))
  have s1 := hs _ (Or.inr (Or.inr (Or.inr rfl)))
  have hN := hg.1
  refine ⟨⟨⟨by rw [sr.1]; exact a1, a2, by rw [sr.2.2.2.1]; exact a3, a4⟩, ⟨by rw [s3.1]; exact b1, by rw [s3.2.2.1]; exact b2, b3, b4, by rw [s3.2.2.2.1]; exact b5, by rw [s1.1]; exact b6, by rw [s1.2.1]; exact b7, fun i hi => by rw [s1.2.2.2.2.1]; exact b8 i hi⟩, ⟨by rw [s3.2.2.2.1]; exact c1, by rw [s0.1]; exact c2, by rw [s0.2.1]; exact c3, fun i hi => by rw [s0.2.2.2.2.1]; exact c4 i hi⟩⟩, ⟨by omega, by omega, by omega, by omega, by omega, h2.2.2.2.2.2⟩, by rw [sr.2.2.1]; exact h3, by rw [sr.2.2.1]; exact h4, by rw [sr.2.2.1]; exact h5, h6⟩
theorem St_s {G : CG} {t t' : Sg} (h : St G t) (s : ∀ a, a < G0 G → sam t t' a) : St G t' := by
  obtain ⟨h1, ⟨b, b1, b2, b3, b4, b5⟩, ⟨c, c1, c2, c3, c4, c5⟩, d, d1, d2, d3, d4, d5⟩ := h
  refine ⟨fun k hk => ?_, ⟨b, b1, b2, by rw [(s b b2).1]; exact b3, by rw [(s b b2).2.1]; exact b4, by rw [(s b b2).2.2.2.2.2]; exact b5⟩, ⟨c, c1, c2, by rw [(s c c2).1]; exact c3, by rw [(s c c2).2.1]; exact c4, by rw [(s c c2).2.2.2.2.2]; exact c5⟩, d, d1, d2, by rw [(s d d2).1]; exact d3, by rw [(s d d2).2.1]; exact d4, fun k hk => ?_⟩
  · obtain ⟨x, x1, x2, x3⟩ := h1 k hk
    exact ⟨x, x1, x2, by rw [(s x x2).1]; exact x3⟩
  · obtain ⟨x, x1, x2, x3, x4⟩ := d5 k hk
    exact ⟨x, by rw [(s d d2).2.2.2.2.2]; exact x1, x2, by rw [(s x x2).1]; exact x3, by rw [(s x x2).2.2.1]; exact x4⟩
/-- wantsSign, whatever came before -/
theorem wS_any {v : Int} {m m2 : Mu} {K P : Int} (hv : 0 ≤ v ∧ v < 100) (hK : 1 ≤ K ∧ K ≤ 6) (h : MFI m m2 K P) : ∃ m', m5_wantsSign v m2 = some m' ∧ MFI m m' K P := by
  obtain ⟨h1 | ⟨rfl, h2, h3, h4⟩, h5⟩ := h
  · exact ⟨m2, wS_f (by rw [h1.1]; exact hK), Or.inl h1, h5⟩
  · obtain ⟨m', e, hm⟩ := wS_b hv h2 h3
    rw [h4] at hm
    exact ⟨m', e, Or.inl ⟨hm.1, hm.2.1⟩, MI_tr h5 (MI_7 hm.2.2)⟩
theorem MFI_ma {m m2 : Mu} {K P v : Int} {k i : Nat} (h : MFI m m2 K P) (hk : k ∈ AI7) (hi : wid k = 0 ∨ i < wid k) : MFI m (ma m2 k i v) K P := ⟨h.1, MI_tr h.2 (MI_ma hk hi)⟩
/-- place 0 behind a write -/
theorem slc_m0 {m : Mu} {k i : Nat} {v : Int} (hi : i < wid k) : slc (ma m k i v) 0 = fun k' j => if k' = k ∧ j = i then v else slc m 0 k' j := by
  funext k' j
  unfold slc
  by_cases z : j < wid k'
  · rw [if_pos z, if_pos z]
    by_cases q : k' = k
    · subst q
      rw [ma_s, Nat.mul_zero, Nat.zero_add]
      by_cases q2 : j = i
      · rw [if_pos q2, if_pos ⟨rfl, q2⟩]
      · rw [if_neg q2, if_neg (fun z => q2 z.2)]
    · rw [ma_o q, if_neg (fun z => q z.1)]
  · rw [if_neg z, if_neg z, if_neg (fun q => z (by rw [q.1, q.2]; exact hi))]
theorem sum7 {G : CG} {L : Ly} {r a N0 : Nat} {κ : Nat → Nat} {t : Sg} {m : Mu} {W : Wv} (h : IX G L r a N0 κ t m W) (h4 : m.1 4 = 4) {i j : Nat} {hi : Int} (hij : (i = 0 ∧ j = 245 ∧ hi = 99999999) ∨ (i = 1 ∧ j = 246 ∧ hi = 1000)) : ITM G L r a N0 t m (bdU (f7_sum G (some r) (W 32 i) hi t) fun q35 => tel q35.1 (fun e36 => xth e36 q35.2) fun x37 => (pfI G.2.2.2.1 q35.2 7 j (some a) x37).bind fun u38 => some ((.inr (), u38), 0, 0)) ((mald m 32 70 (i : Int)).bind fun x1 => if w32 x1 = -3 then (m5_next m).bind fun u2 => m5_readStatement_b149 i 0 hi u2 else (m5_wrong 6 m).bind fun u4 => some u4) := by
  obtain ⟨⟨hR, hc, h287, h286⟩, hWB, hCV, ⟨h51, h46, hJ⟩, hSt, hN⟩ := id h
  have hi2 : i < 2 := by omega
  have hsl : slc m 0 = W := hWB.2.1.1
  have e32 : mald m 32 70 (i : Int) = some (W 32 i) := by
    rw [mald_e i rfl (by omega) (by omega), ← hsl]
    show _ = some (if i < 5 then m.2 32 (5 * 0 + i) else 0)
    rw [if_pos (by omega), show 5 * 0 + i = i by omega]
  rw [e32, Option.bind_some]
  have hsm : smO (W 32 i) hi := by
    rcases hij with ⟨rfl, -, rfl⟩ | ⟨rfl, -, rfl⟩
    · exact hWB.2.2.2.2.2.2.2.1.2.2.1
    · exact hWB.2.2.2.2.2.2.2.1.2.2.2.1
  have hhi : 0 ≤ hi ∧ hi ≤ 999999999 := by omega
  unfold f7_sum
  have w32x : w32 (W 32 i) = W 32 i := by
    rcases hsm with q | q
    · rw [q]; decide
    · exact w32_id (by omega) (by omega)
  rw [w32x]
  rcases hsm with q | q
  · rw [if_pos (show W 32 i < 0 by omega), if_pos q, ztg_e hR.1.1.1, Option.bind_some]
    obtain ⟨m1, n1, n2, n3⟩ := next8 hR (by omega) (by omega)
    rw [n1, Option.bind_some]
    -- the twin's end once it has a fault
    have fin : ∀ (m2 : Mu) (x K P : Int), 1 ≤ K ∧ K ≤ 6 → MFI m m2 K P → m5_wantsNumber 0 hi m1 = some (x, m2) → ∃ m', m5_readStatement_b149 i 0 hi m1 = some m' ∧ MFI m m' K P := fun m2 x K P hK hm e => by
      have h1 : MFI m (ma m2 32 i x) K P := MFI_ma hm (by decide) (Or.inr (by show i < 5; omega))
      obtain ⟨m', e', h2⟩ := wS_any (v := 6) (by decide) hK h1
      refine ⟨m', ?_, h2⟩
      unfold m5_readStatement_b149
      rw [e, Option.bind_some, mast_e i rfl (by omega) (by omega), Option.bind_some, e']; rfl
    rcases n3 with ⟨t1, p1, p2⟩ | ⟨e, t1, p1, p2, p3, p4, p5, p6⟩
    · have hI1 := IX_n h p2
      rw [p1, te_ok]
      dsimp only
      rw [ztg_e p2.1.1.1.1, Option.bind_some]
      have fr1 := p2.2.2.1
      have lt1 := p2.2.2.2.2.2.1
      have MI1 : MI m m1 := MI_7 n2
      have FR1 : FRo N0 t t1 := FRo_7 hN.2.2.2.1 hN.2.2.2.2 fr1
      have hN1 : N0 ≤ zN t1 ∧ N0 ≤ r := ⟨hI1.2.2.2.2.2.2.2.2.1, hN.2.2.2.2⟩
      obtain ⟨x, m2, k1, k2⟩ := number7 p2.1 (by have := p2.2.1; omega) (lo := 0) (hi := hi) (by omega) hhi
      rcases k2 with ⟨t2, s1, s2, s3, s4⟩ | ⟨e, t2, K, P, s1, s2, s3⟩
      · have hI2 := IX_n hI1 s2
        rw [s1, te_ok]
        dsimp only
        rw [ztg_e s2.1.1.1.1, Option.bind_some]
        have fr2 := s2.2.2.1
        have lt2 := s2.2.2.2.2.2.1
        obtain ⟨m3, hm3⟩ : ∃ m3, m3 = ma m2 32 i x := ⟨_, rfl⟩
        have e31 : m3.1 = m2.1 := by rw [hm3]; rfl
        have R3 : R7 G L t2 m3 r := R7_a s2.1 e31 (by rw [hm3, ma_o (by decide)]) (by rw [hm3, ma_o (by decide)])
        have mI2 : MI m1 m2 := MI_7 ⟨fun k hk => s2.2.2.2.2.2.2.2 k (by simp only [CS7, List.mem_cons, List.not_mem_nil, or_false] at hk; omega), fun k _ => by rw [s2.2.2.2.2.2.2.1]⟩
        have MI3 : MI m m3 := MI_tr MI1 (MI_tr mI2 (by rw [hm3]; exact MI_ma (by decide) (Or.inr (by show i < 5; omega))))
        obtain ⟨m4, v1, v2⟩ := want7 R3 (by rw [e31]; have := s2.2.1; omega) (j := 6) (by decide) (l := 59) (v := 6) rfl rfl
        have eT : m5_readStatement_b149 i 0 hi m1 = some m4 := by
          unfold m5_readStatement_b149
          rw [k1, Option.bind_some, mast_e i rfl (by omega) (by omega), Option.bind_some, ← hm3, v1]; rfl
        rw [eT]
        have FR2 : FRo N0 t t2 := FRo_tr FR1 (FRo_7 hN1.1 hN1.2 fr2)
        have hN2 : N0 ≤ zN t2 ∧ N0 ≤ r := ⟨hI2.2.2.2.2.2.2.2.2.1, hN.2.2.2.2⟩
        rw [e31] at v2
        rcases v2 with ⟨t3, u1, u2⟩ | ⟨e, t3, K, P, u1, u2, u3⟩
        · left
          rw [u1, te_ok]
          dsimp only
          rw [te_ok]
          dsimp only
          obtain ⟨g1, g2, g3, g4, g5, g6, g7, g8⟩ := u2
          rw [e31] at g6
          obtain ⟨⟨o1, o2, o3⟩, o4, o5, o6, o7⟩ := hI2.2.1.1
          have hane : a ≠ r := fun e => by rw [e, o3] at o1; exact absurd o1 (by decide)
          have haN : a < zN t2 := o4 a (by rw [o1]; decide)
          have sa := g3.2.1 a haN hane
          obtain ⟨t4, ht4⟩ : ∃ t4, t4 = zsI t3 a j x := ⟨_, rfl⟩
          have hGa : G0 G ≤ a := by have := k25 o5 o6 a (by rw [o1]; decide); omega
          have ePf : pfI G.2.2.2.1 t3 7 j (some a) x = some t4 := by rw [ht4]; exact pfI_e (by rw [sa.1]; exact o2) hGa
          have hgr : gro t2 t4 := by rw [ht4]; exact g3.1
          have s4q : ∀ q, q ≠ a → sam t3 t4 q := fun q hq => by rw [ht4]; exact sam_zsI sam_rf hq
          have I4 : ∀ k, zI t4 r k = zI t3 r k := fun k => by rw [ht4, zsI_I, if_neg (fun q => hane q.1.symm)]
          have hN0a : N0 ≤ a := k25 o5 o6 a (by rw [o1]; decide)
          have R4 : R7 G L t4 m4 r := R7_z g1 (fun q hq => s4q q (by rcases hq with rfl | rfl | rfl | rfl <;> omega)) (by rw [ht4]; exact gro_rf)
          have s24 : ∀ q, q < zN t2 → q ≠ a → q ≠ r → sam t2 t4 q := fun q h1 h2 h3 => sam_tr (g3.2.1 q h1 h3) (s4q q h2)
          have FR4 : FRo N0 t t4 := FRo_tr FR2 ⟨hgr, fun q hq => s24 q (by omega) (by omega) (by omega)⟩
          obtain ⟨W', hW'⟩ : ∃ W', W' = slc m4 0 := ⟨_, rfl⟩
          have hsl2 : slc m2 0 = W := hI2.2.1.2.1.1
          have eW : W' = fun k' j' => if k' = 32 ∧ j' = i then x else W k' j' := by
            rw [hW', ← hsl2, ← slc_m0 (m := m2) (k := 32) (i := i) (v := x) (by show i < 5; omega), ← hm3]
            funext k' j'
            unfold slc
            rw [g7]
          have hWo : ∀ k, k ≠ 32 → W' k = W k := fun k hk => by rw [eW]; funext j'; exact if_neg (fun q => hk q.1)
          have hW32 : ∀ j', j' ≠ i → W' 32 j' = W 32 j' := fun j' hj => by rw [eW]; exact if_neg (fun q => hj q.2)
          have hW32i : W' 32 i = x := by rw [eW]; exact if_pos ⟨rfl, rfl⟩
          have e46 : m4.1 46 = m2.1 46 := by rw [g8 46 (by omega), e31]
          have e56 : m4.1 56 = m2.1 56 := by rw [g8 56 (by omega), e31]
          have a42 : ∀ k, k ≠ 32 → m4.2 k = m2.2 k := fun k hk => by rw [g7, hm3, ma_o hk]
          have Ia : ∀ k, zI t4 a k = if k = j then x else zI t2 a k := fun k => by
            rw [ht4, zsI_I, sa.2.2.1]
            by_cases q : k = j
            · rw [if_pos ⟨rfl, q⟩, if_pos q]
            · rw [if_neg (fun z => q z.2), if_neg q]
          have hWB4 : WB G r a N0 κ t4 m4 W' := by
            obtain ⟨S1, S2, S3, S4, d, S5, S6, S7, S8, S9⟩ := hI2.2.1.2.2.2.2.2.2.2.1
            refine WB_s hgr (fun q h1 h2 h3 _ => s24 q (o4 q h1) (fun e => h2 (by rw [e]; exact o1)) (fun e => h3 (by rw [e]; exact o3))) ⟨by rw [ht4]; show zT t3 a = 7; rw [sa.1]; exact o2, by rw [ht4]; show zR t3 a = _; rw [sa.2.2.2.1], by rw [Ia, if_neg (by omega)]⟩ (fun d hd => ?_) hW'.symm hWo e56 ⟨by rw [e46]; exact Int.le_refl _, fun k _ => nd_of (fun k hk => a42 k (by omega)) k⟩ (fun n _ => by rw [a42 53 (by decide), a42 54 (by decide), a42 55 (by decide)]; exact ⟨rfl, rfl, rfl⟩) ?_ (fun d hd k hk => ?_) hI2.2.1
            · have sd := s24 d (o4 d (by rw [hd]; decide)) (fun e => by rw [e, o1] at hd; exact absurd hd (by decide)) (fun e => by rw [e, o3] at hd; exact absurd hd (by decide))
              exact ⟨sd.1, sd.2.1⟩
            · rw [Ia, Ia]
              rcases hij with ⟨rfl, rfl, rfl⟩ | ⟨rfl, rfl, rfl⟩
              · rw [if_pos rfl, if_neg (by decide), hW32i, hW32 1 (by decide)]
                exact ⟨rfl, S2, Or.inr ⟨s3, s4⟩, S4⟩
              · rw [if_neg (by decide), if_pos rfl, hW32i, hW32 0 (by decide)]
                exact ⟨S1, rfl, S3, Or.inr ⟨s3, s4⟩⟩
            · rw [S5] at hd
              cases hd
              have sd := s24 d (o4 d (by rw [S6]; decide)) (fun e => by rw [e, o1] at S6; exact absurd S6 (by decide)) (fun e => by rw [e, o3] at S6; exact absurd S6 (by decide))
              rw [sd.2.2.2.2.1, hW32 (2 + k) (by omega)]
              exact S9 k hk
          have hCV4 : CVR m4 W' (m4.1 46) := by
            have := hI2.2.2.1
            unfold CVR SMS at this ⊢
            have eM : nM W' = nM W := by show (W' 19 0).toNat = _; rw [hWo 19 (by decide)]
            have eP : nP W' = nP W := by show (W' 27 0).toNat = _; rw [hWo 27 (by decide)]
            rw [e46, e56, eM, eP, hWo 21 (by decide), hWo 22 (by decide), hWo 30 (by decide), hWo 31 (by decide), a42 54 (by decide), a42 55 (by decide)]
            exact this
          have l46 := hI2.2.2.2.1.2
          refine ⟨t4, 0, 0, m4, κ, W', by rw [ePf]; rfl, rfl, ⟨⟨R4, g2, ?_, ?_⟩, hWB4, hCV4, ⟨?_, by rw [e46]; exact l46.1, by rw [e46]; omega⟩, St_s hI2.2.2.2.2.1 (fun q hq => s24 q (by omega) (by omega) (by omega)), hN.1, hN.2.1, hN.2.2.1, by rw [ht4]; show N0 ≤ zN t3; omega, hN.2.2.2.2⟩, FR4, MI_tr MI3 (MI_7 ⟨fun k hk => g8 k (by simp only [CS7, List.mem_cons, List.not_mem_nil, or_false] at hk; omega), fun k _ => by rw [g7]⟩), ?_⟩
          · rw [I4, g5 287 (by omega)]; exact hI2.1.2.2.1
          · rw [ht4]; show zR t3 r 286 = _; rw [g3.2.2.2.1]; exact hI2.1.2.2.2
          · exact Z51_e hI2.2.2.2.1.1 (by rw [g8 51 (by omega), e31]) e46 (by rw [g8 52 (by omega), e31])
          · unfold CST; omega
        · right
          refine ⟨e, t3, 1, 8, K, P, m4, ?_, THI_tr FR2 hN2 (by omega) u2 (by omega) (by omega), rfl, MFI_tr MI3 (MFI_B u3)⟩
          rw [u1, xt_tel u2.1, xt_tel u2.1]
      · right
        obtain ⟨m', e1, e2⟩ := fin m2 x K P s2.2.1.2 (MFI_tr MI1 (MFI_B s3)) k1
        rw [e1]
        refine ⟨e, t2, 1, 8, K, P, m', ?_, THI_tr FR1 hN1 (by omega) s2 (by omega) (by omega), rfl, e2⟩
        rw [s1, xt_tel s2.1, xt_tel s2.1]
    · right
      obtain ⟨m2, z1, z2⟩ := wN_b (lo := 0) (hi := hi) p4 p3
      obtain ⟨m', e1, e2⟩ := fin m2 0 1 (m1.1 5) (by decide) ⟨Or.inl ⟨z2.1, z2.2.1⟩, MI_tr (MI_7 n2) (MI_7 z2.2.2)⟩ z1
      rw [e1]
      refine ⟨e, t1, 1, 8, 1, m1.1 5, m', ?_, THI_tr FRo_rf ⟨hN.2.2.2.1, hN.2.2.2.2⟩ (Int.le_refl _) p2 (by omega) (by omega), rfl, e2⟩
      rw [p1, xt_tel p2.1, xt_tel p2.1]
  · rw [if_neg (show ¬ W 32 i < 0 by omega), if_neg (show ¬ W 32 i = -3 by omega)]
    right
    obtain ⟨t', e, hth⟩ := c_throw (α := Int) hR 6
    obtain ⟨m', em, hm, -⟩ := m_wrong hR.2.2.2.2.2 6
    rw [em]
    refine ⟨_, t', 1, 8, 6, m.1 5, m', ?_, THI_tr FRo_rf ⟨hN.2.2.2.1, hN.2.2.2.2⟩ (Int.le_refl _) hth (by omega) (by omega), rfl, MFI_B (Or.inl hm)⟩
    rw [e, xt_tel hth.1]

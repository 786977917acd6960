/-! THE READER: the end of a meaning -/
theorem sam_zI {t : Sg} {a g : Nat} {v : Int} {q : Nat} (h : q ≠ a) : sam t (zsI t a g v) q := ⟨rfl, rfl, by funext j; rw [zsI_I, if_neg (fun e => h e.1)], rfl, rfl, rfl⟩
theorem mean_end {G : CG} {L : Ly} {r a N0 n c : Nat} {κ : Nat → Nat} {t : Sg} {m : Mu} {W : Wv} {x v i0 : Int} (hR : R7 G L t m r) (hc : m.1 52 ≤ m.1 5) (h287 : zI t r 287 = 0) (h286 : zR t r 286 = some a) (hWB : WB G r a N0 κ t m W) (hCV : CVR m W i0) (h51 : Z51 m) (h46 : 0 ≤ i0 ∧ i0 ≤ m.1 46 ∧ m.1 46 ≤ m.1 5) (hv : m.1 52 - v = m.1 46 - i0) (hSt : St G t) (hN : L.1 3 < N0 ∧ L.1 100 < N0 ∧ L.1 101 < N0 ∧ N0 ≤ zN t ∧ N0 ≤ r) (hn : n = nM W) (hn12 : n < 12) (w20 : NM x (W 20 n)) (w21 : W 21 n = i0) (hco : CB G κ t m W (nM W) c i0 (m.1 46)) : ITM G L r a N0 t m ((ztg t 8 (some r)).bind fun b26 => bdU (f7_want G (some b26) 59 t) fun q27 => tel q27.1 (fun e28 => xth e28 q27.2) fun x29 => (gfR q27.2 8 286 (some r)).bind fun x30 => (gfI q27.2 7 248 x30).bind fun x31 => (gfI q27.2 8 288 (some r)).bind fun x32 => (pfI G.2.2.2.1 q27.2 7 248 x30 (x31 + (x32 - v))).bind fun u33 => (gfR u33 8 286 (some r)).bind fun x34 => (gfR u33 7 241 x34).bind fun x35 => bdU (fJ15_valueOf G x u33) fun q36 => (ztg q36.2 6 x35).bind fun b37 => bdU (fJ2_add G (some b37) q36.1 q36.2) fun q38 => (gfR q38.2 8 286 (some r)).bind fun x39 => (gfR q38.2 7 242 x39).bind fun x40 => (ztg q38.2 6 x40).bind fun b41 => bdU (fJ2_add G (some b41) (some c) q38.2) fun q42 => some ((.inr (), q42.2), 0, 0)) ((mast m 22 168 n (m.1 46)).bind fun u9 => (mald u9 19 14 0).bind fun x10 => (mast u9 19 14 0 (x10 + 1)).bind fun u11 => (m5_wantsSign 6 u11).bind fun u12 => some u12) := by
  obtain ⟨⟨o1, o2, o3⟩, o4, o5, o6, o7⟩ := id hWB.1
  have hNa : N0 ≤ a := k25 o5 o6 a (by omega)
  have hane : a ≠ r := fun e => by rw [e, o3] at o1; exact absurd o1 (by decide)
  have hsl : slc m 0 = W := hWB.2.1.1
  have b19 : W 19 0 = (nM W : Int) := hWB.2.1.2.2.2.1
  have e19 : m.2 19 0 = (n : Int) := by
    have : slc m 0 19 0 = (n : Int) := by rw [hsl, b19, hn]
    exact this
  rw [ztg_e hR.1.1.1, Option.bind_some, mast_e n rfl (by omega) (by omega), Option.bind_some]
  obtain ⟨m1, hm1⟩ : ∃ m1, m1 = ma m 22 n (m.1 46) := ⟨_, rfl⟩
  rw [← hm1]
  have e1 : mald m1 19 14 0 = some (n : Int) := by rw [mald_e (i := 0) 0 rfl (by omega) (by omega), hm1, ma_o (by decide), e19]
  rw [e1, Option.bind_some, mast_e (i := 0) 0 rfl (by omega) (by omega), Option.bind_some]
  obtain ⟨m2, hm2⟩ : ∃ m2, m2 = ma m1 19 0 ((n : Int) + 1) := ⟨_, rfl⟩
  rw [← hm2, bind_id7]
  have e21 : m2.1 = m.1 := by rw [hm2, hm1]; rfl
  have R2 : R7 G L t m2 r := R7_a hR e21 (by rw [hm2, ma_o (by decide), hm1, ma_o (by decide)]) (by rw [hm2, ma_o (by decide), hm1, ma_o (by decide)])
  have MI2 : MI m m2 := by rw [hm2, hm1]; exact MI_tr (MI_ma (by decide) (Or.inr (by show n < 12; omega))) (MI_ma (by decide) (Or.inr (by decide)))
  obtain ⟨m3, v1, v2⟩ := want7 R2 (by rw [e21]; omega) (j := 6) (by decide) (l := 59) (v := 6) rfl rfl
  rw [v1]
  rw [e21] at v2
  rcases v2 with ⟨t1, u1, u2⟩ | ⟨e, t1, K, P, u1, u2, u3⟩
  · left
    obtain ⟨g1, g2, g3, g4, g5, g6, g7, g8⟩ := u2
    have haN : a < zN t := o4 a (by rw [o1]; decide)
    have sa1 := g3.2.1 a haN hane
    have T1a : zT t1 a = 7 := by rw [sa1.1]; exact o2
    have K1 := KO_7 hWB.1 g3
    have KK1 := KK_7 hWB.1 g3
    obtain ⟨t4, ht4⟩ : ∃ t4, t4 = zsI t1 a 248 (zI t1 a 248 + (m3.1 52 - v)) := ⟨_, rfl⟩
    have s14 : ∀ q, q ≠ a → sam t1 t4 q := fun q hq => by rw [ht4]; exact sam_zI hq
    have G14 : gro t1 t4 := by rw [ht4]; exact ⟨Nat.le_refl _, fun _ _ => ⟨rfl, rfl⟩⟩
    have N4 : zN t4 = zN t1 := by rw [ht4]; rfl
    have T4a : zT t4 a = 7 := by rw [ht4]; exact T1a
    have R4a : zR t4 a = zR t1 a := by rw [ht4]; rfl
    have sr4 := s14 r (fun e => hane e.symm)
    have K4 : KO G r a N0 κ t4 := ⟨⟨o1, T4a, o3⟩, fun q hq => by rw [N4]; exact K1.2.1 q hq, o5, o6, o7⟩
    have R4 : R7 G L t4 m3 r := by
      refine R7_z g1 (fun q hq => ?_) G14
      rcases hq with rfl | rfl | rfl | rfl
      · exact sr4
      · exact s14 _ (by omega)
      · exact s14 _ (by omega)
      · exact s14 _ (by omega)
    have St4 : St G t4 := St_s (St_k7 hSt hR.2.1.1 hR.1.1.2.1 g3) (fun q hq => s14 q (by omega))
    obtain ⟨b, t5, cv, nv, w1, w2, w3, fr45, I5, T5b, I5b, b5, w4⟩ := value7 R4 St4 w20
    obtain ⟨K5, KK5⟩ := KO_fzn K4 fr45
    obtain ⟨κ5, hκ5⟩ : ∃ κ5, κ5 = fzn κ (zN t4) (zN t5) := ⟨_, rfl⟩
    rw [← hκ5] at K5 KK5
    have k5b : κ5 b = 1 := by
      rcases w4 with q | ⟨q, q'⟩
      · exact K5.2.2.2.1 b q
      · rw [hκ5]; exact fzn_n ⟨by omega, b5⟩
    -- from t to t5
    have hk5 : ∀ q, κ q ≠ 0 → κ q ≠ 2 → κ q ≠ 3 → sam t t5 q ∧ κ5 q = κ q := fun q q1 q2 q3 => by
      obtain ⟨s1, -⟩ := KK1.2 q q1 q3
      obtain ⟨s2, e2⟩ := KK5.2 q q1 q3
      exact ⟨sam_tr s1 (sam_tr (s14 q (fun e => q2 (by rw [e]; exact o1))) s2), e2⟩
    have gg5 : gro t t5 := gro_tr g3.1 (gro_tr G14 fr45.1)
    have sa45 := (KK5.2 a (by rw [o1]; decide) (by rw [o1]; decide)).1
    have R5a : zR t5 a = zR t a := by rw [sa45.2.2.2.1, R4a, sa1.2.2.2.1]
    have lb5 : ∀ {j n : Nat} {el : Nat → Nat}, (j ≠ 0 ∧ j ≠ 2 ∧ j ≠ 3) → LBw G κ t a j n el → LBw G κ5 t5 a j n el := fun {j n el} j1 hl => LBw_r gg5 (fun q hq => hk5 q (by rw [hq]; exact j1.1) (by rw [hq]; exact j1.2.1) (by rw [hq]; exact j1.2.2)) (fun q hq => (hk5 q (by rw [o6 q hq]; decide) (by rw [o6 q hq]; decide) (by rw [o6 q hq]; decide)).1) (by rw [R5a]) hl
    obtain ⟨e2, L2, Q2⟩ := hWB.2.2.2.1
    obtain ⟨e3, L3, Q3⟩ := hWB.2.2.2.2.1
    rw [← hn] at L2 L3
    have hcN : κ c = 1 ∧ zT t c ∈ OT ∧ zT t c ≠ 6 := ⟨(CA_OT hco.2.1).2.1, (CA_OT hco.2.1).1, CA_ne6 hco.2.1⟩
    have hN5 : N0 ≤ zN t5 := by have := gg5.1; omega
    obtain ⟨l2, t6, κ6, ca, na, y1, y2, y3, y4, y5, y6, y7, y8, y9, y10, y11, y12⟩ := LBw_add (c := b) K5 (by decide) hN5 (lb5 (by decide) L2) (by omega) ⟨by rw [T5b]; decide, b5⟩ (by rw [T5b]; decide)
    have sa56 := (y9 a (by rw [K5.1.1]; decide) (by rw [K5.1.1]; decide)).1
    have L36 : LBw G κ6 t6 a 242 n e3 := LBw_r y8 (fun q hq => y9 q (by rw [hq]; decide) (by rw [hq]; decide)) (fun q hq => (y9 q (by rw [K5.2.2.2.1 q hq]; decide) (by rw [K5.2.2.2.1 q hq]; decide)).1) (by rw [sa56.2.2.2.1]) (lb5 (by decide) L3)
    have hN6 : N0 ≤ zN t6 := by have := y8.1; omega
    have sc5 := hk5 c (by rw [hcN.1]; decide) (by rw [hcN.1]; decide) (by rw [hcN.1]; decide)
    have sc6 := y9 c (by rw [sc5.2, hcN.1]; decide) (by rw [sc5.2, hcN.1]; decide)
    have cT6 : zT t6 c = zT t c := by rw [sc6.1.1, sc5.1.1]
    have cN6 : c < zN t6 := y10.2.1 c (by rw [sc6.2, sc5.2, hcN.1]; decide)
    obtain ⟨l3, t7, κ7, ca', na', x1, x2, x3, x4, x5, x6, x7, x8, x9, x10, x11, x12⟩ := LBw_add (c := c) y10 (by decide) hN6 L36 (by omega) ⟨by rw [cT6]; exact hcN.2.1, cN6⟩ (by rw [cT6]; exact hcN.2.2)
    have sa67 := (x9 a (by rw [y10.1.1]; decide) (by rw [y10.1.1]; decide)).1
    have L27 : LBw G κ7 t7 a 241 (n + 1) (fun i => if i < n then e2 i else b) := LBw_r x8 (fun q hq => x9 q (by rw [hq]; decide) (by rw [hq]; decide)) (fun q hq => (x9 q (by rw [y10.2.2.2.1 q hq]; decide) (by rw [y10.2.2.2.1 q hq]; decide)).1) (by rw [sa67.2.2.2.1]) y7
    have hk57 : ∀ q, κ5 q ≠ 0 → κ5 q ≠ 241 → κ5 q ≠ 242 → sam t5 t7 q ∧ κ7 q = κ5 q := fun q q1 q2 q3 => by
      obtain ⟨s1, e1⟩ := y9 q q1 q2
      obtain ⟨s2, e2⟩ := x9 q (by rw [e1]; exact q1) (by rw [e1]; exact q3)
      exact ⟨sam_tr s1 s2, by rw [e2, e1]⟩
    have hk7 : ∀ q, κ q ≠ 0 → κ q ≠ 241 → κ q ≠ 242 → κ q ≠ 2 → κ q ≠ 3 → sam t t7 q ∧ κ7 q = κ q := fun q q1 q2 q3 q4 q5 => by
      obtain ⟨s1, e1⟩ := hk5 q q1 q4 q5
      obtain ⟨s2, e2⟩ := hk57 q (by rw [e1]; exact q1) (by rw [e1]; exact q2) (by rw [e1]; exact q3)
      exact ⟨sam_tr s1 s2, by rw [e2, e1]⟩
    have sa57 := (hk57 a (by rw [K5.1.1]; decide) (by rw [K5.1.1]; decide) (by rw [K5.1.1]; decide)).1
    have sb57 := hk57 b (by rw [k5b]; decide) (by rw [k5b]; decide) (by rw [k5b]; decide)
    have hg7 : gro t t7 := gro_tr gg5 (gro_tr y8 x8)
    have kf7 : KF κ κ7 t t7 := ⟨hg7, fun q hq => by
      obtain ⟨s, e⟩ := hk7 q (by rw [hq]; decide) (by rw [hq]; decide) (by rw [hq]; decide) (by rw [hq]; decide) (by rw [hq]; decide)
      exact ⟨s, by rw [e]; exact hq⟩⟩
    have e6 : ∀ j, (j < 3 ∨ 7 < j) → m3.1 j = m.1 j := fun j h1 => by rw [g8 j h1, e21]
    have a3 : ∀ k, k ≠ 19 → k ≠ 22 → m3.2 k = m.2 k := fun k h1 h2 => by rw [g7, hm2, ma_o h1, hm1, ma_o h2]
    have nd6 : ∀ k, ndN m3 k = ndN m k := fun k => nd_of (fun j hj => a3 j (by omega) (by omega)) k
    obtain ⟨W', hW'⟩ : ∃ W', W' = slc m3 0 := ⟨_, rfl⟩
    have wo : ∀ k, k ≠ 19 → k ≠ 22 → W' k = W k := fun k h1 h2 => by
      rw [hW', ← hsl]; funext j; unfold slc; rw [a3 k h1 h2]
    have w19 : W' 19 0 = (n : Int) + 1 := by
      rw [hW']
      show m3.2 19 0 = _
      rw [g7, hm2, ma_s, if_pos rfl]
    have w22 : ∀ k, k < 12 → W' 22 k = if k = n then m.1 46 else W 22 k := fun k hk => by
      rw [hW', ← hsl]
      show (if k < 12 then m3.2 22 (12 * 0 + k) else 0) = if k = n then m.1 46 else if k < 12 then m.2 22 (12 * 0 + k) else 0
      rw [if_pos hk, if_pos hk, g7, hm2, ma_o (by decide), hm1, ma_s, show 12 * 0 + k = k by omega]
    have e46 : m3.1 46 = m.1 46 := e6 46 (by omega)
    have hn6 : m.1 46 ≤ m3.1 46 ∧ ∀ k : Nat, (k : Int) < m.1 46 → ndN m3 k = ndN m k := ⟨by omega, fun k _ => nd6 k⟩
    have eF : nF W' = nF W := by show (W' 12 0).toNat = _; rw [wo 12 (by decide) (by decide)]
    have eP : nP W' = nP W := by show (W' 27 0).toNat = _; rw [wo 27 (by decide) (by decide)]
    have eM : nM W' = n + 1 := by show (W' 19 0).toNat = _; rw [w19]; omega
    have w14 : ∀ f, f < nF W → W' 14 f = W 14 f := fun f _ => by rw [wo 14 (by decide) (by decide)]
    have I7a : ∀ j, zI t7 a j = zI t4 a j := fun j => by rw [sa57.2.2.1, sa45.2.2.1]
    have I4a : ∀ j, j ≠ 248 → zI t4 a j = zI t a j := fun j hj => by rw [ht4, zsI_I, if_neg (fun e => hj e.2), sa1.2.2.1]
    have W6 : WB G r a N0 κ7 t7 m3 W' := by
      refine WB_m hWB hg7 hk7 ⟨by rw [sa57.2.2.2.1, R5a], by rw [I7a, I4a _ (by decide)], by rw [I7a, I4a _ (by decide)]⟩ x10 hW'.symm (fun k hk => wo k (by omega) (by omega)) (by rw [w19, hn]) (by omega) (fun i hi => ⟨by rw [wo 20 (by decide) (by decide)], by rw [wo 21 (by decide) (by decide)], by rw [w22 i (by omega), if_neg (by omega)]⟩) (e6 56 (by omega)) hn6 (fun k _ => by rw [a3 53 (by decide) (by decide), a3 54 (by decide) (by decide), a3 55 (by decide) (by decide)]; exact ⟨rfl, rfl, rfl⟩) (by rw [← hn]; exact L27) (fun k hk => ?_) (by rw [← hn]; exact x7) (fun k hk => ?_) ?_
      · rw [← hn] at hk
        show κ7 (if k < n then e2 k else b) = 1 ∧ zT t7 (if k < n then e2 k else b) = 29 ∧ NM (zI t7 (if k < n then e2 k else b) 1120) (W' 20 k)
        rw [wo 20 (by decide) (by decide)]
        by_cases z : k < n
        · rw [if_pos z]
          obtain ⟨z1, z2, z3⟩ := Q2 k (by omega)
          obtain ⟨s, e⟩ := kf7.2 _ z1
          exact ⟨e, by rw [s.1]; exact z2, by rw [s.2.2.1]; exact z3⟩
        · rw [if_neg z, show k = n by omega]
          exact ⟨by rw [sb57.2]; exact k5b, by rw [sb57.1.1]; exact T5b, by rw [sb57.1.2.2.1, I5b]; exact w20⟩
      · rw [← hn] at hk
        show CB G κ7 t7 m3 W' k (if k < n then e3 k else c) (W' 21 k) (W' 22 k)
        rw [wo 21 (by decide) (by decide), w22 k (by omega)]
        by_cases z : k < n
        · rw [if_pos z, if_neg (by omega)]
          exact CB_k kf7 (Nat.le_of_eq eF.symm) w14 (Int.le_refl _) hn6 (Q3 k (by omega))
        · rw [if_neg z, if_pos (by omega), show k = n by omega, w21]
          exact CB_k kf7 (Nat.le_of_eq eF.symm) w14 (by omega) hn6 hco
      · rw [← hn, wo 21 (by decide) (by decide), w22 n hn12, if_pos rfl, w21, I7a, ht4, zsI_I, if_pos ⟨rfl, rfl⟩, sa1.2.2.1, e6 52 (by omega)]
        omega
    have hCV6 : CVR m3 W' (m3.1 46) := by
      refine ⟨fun i hi => ?_, ?_⟩
      rotate_left
      · have hs := hCV.2
        unfold SMS at hs ⊢
        have y : lsm (fun k => W' 22 k - W' 21 k) n = lsm (fun k => W 22 k - W 21 k) n := lsm_cg (fun k hk => by
          rw [w22 k (by omega), if_neg (by omega), wo 21 (by decide) (by decide)])
        rw [eM, e6 56 (by omega), eP, lsm_s, y, w22 n (by omega), if_pos rfl, wo 21 (by decide) (by decide), wo 31 (by decide) (by decide), wo 30 (by decide) (by decide), a3 54 (by decide) (by decide), a3 55 (by decide) (by decide), w21, e46]
        rw [← hn] at hs
        omega
      rw [e46] at hi
      rw [eM, e6 56 (by omega), eP, wo 21 (by decide) (by decide), wo 31 (by decide) (by decide), wo 30 (by decide) (by decide), a3 54 (by decide) (by decide), a3 55 (by decide) (by decide)]
      by_cases z : (i : Int) < i0
      · rcases hCV.1 i z with ⟨k, q1, q2, q3⟩ | q | q
        · exact Or.inl ⟨k, by omega, q2, by rw [w22 k (by omega), if_neg (by omega)]; exact q3⟩
        · exact Or.inr (Or.inl q)
        · exact Or.inr (Or.inr q)
      · exact Or.inl ⟨n, by omega, by rw [w21]; omega, by rw [w22 n (by omega), if_pos rfl]; exact hi⟩
    have hNn := hN.2.2.2.2
    have sr57 := (hk57 r (by rw [K5.1.2.2]; decide) (by rw [K5.1.2.2]; decide) (by rw [K5.1.2.2]; decide)).1
    have F57 : FRo N0 t5 t7 := FRo_tr y11 x11
    have R5 : R7 G L t5 m3 r := R7_k R4 fr45 (fun j _ => I5 j)
    have R7' : R7 G L t7 m3 r := by
      refine R7_z R5 (fun q hq => ?_) F57.1
      rcases hq with rfl | rfl | rfl | rfl
      · exact sr57
      · exact F57.2 _ hN.1
      · exact F57.2 _ hN.2.1
      · exact F57.2 _ hN.2.2.1
    have F14 : FRo N0 t1 t4 := ⟨G14, fun q hq => s14 q (by omega)⟩
    have FRall : FRo N0 t t7 := FRo_tr (FRo_7 hN.2.2.2.1 hNn g3) (FRo_tr F14 (FRo_tr (FRo_7 (by omega) hNn fr45) F57))
    have r286 : zR t7 r 286 = some a := by rw [sr57.2.2.2.1, fr45.2.2.2.1, sr4.2.2.2.1, g3.2.2.2.1]; exact h286
    have ly1 : zR t4 a 241 = some l2 := by rw [← y1, sa45.2.2.2.1]
    refine ⟨t7, 0 + ca' + ca + cv, 0 + na' + na + nv, m3, κ7, W', ?_, rfl, ⟨⟨R7', g2, ?_, r286⟩, W6, hCV6, ⟨?_, by omega, ?_⟩, ?_, hN.1, hN.2.1, hN.2.2.1, by have := hg7.1; omega, hNn⟩, FRall, MI_tr MI2 (MI_7 ⟨fun k hk => g8 k (by simp only [CS7, List.mem_cons, List.not_mem_nil, or_false] at hk; omega), fun k _ => by rw [g7]⟩), ?_⟩
    · rw [u1, te_ok]
      dsimp only
      rw [gfR_v g1.1.1.1 (show zR t1 r 286 = some a by rw [g3.2.2.2.1]; exact h286), Option.bind_some, gfI_e T1a, Option.bind_some, gfI_v g1.1.1.1 g1.2.2.2.1.1, Option.bind_some, pfI_e T1a (Nat.le_trans o7 hNa), Option.bind_some, ← ht4, gfR_v R4.1.1.1 (show zR t4 r 286 = some a by rw [sr4.2.2.2.1, g3.2.2.2.1]; exact h286), Option.bind_some, gfR_v T4a ly1, Option.bind_some, w1, bdU_e]
      dsimp only
      rw [ztg_e y2, Option.bind_some, y4, bdU_e]
      dsimp only
      rw [gfR_v (show zT t6 r = 8 by rw [(y9 r (by rw [K5.1.2.2]; decide) (by rw [K5.1.2.2]; decide)).1.1]; exact R5.1.1.1) (show zR t6 r 286 = some a by rw [(y9 r (by rw [K5.1.2.2]; decide) (by rw [K5.1.2.2]; decide)).1.2.2.2.1, fr45.2.2.2.1, sr4.2.2.2.1, g3.2.2.2.1]; exact h286), Option.bind_some, gfR_v y10.1.2.1 x1, Option.bind_some, ztg_e x2, Option.bind_some, x4, bdU_e]
      rfl
    · rw [sr57.2.2.1, I5, sr4.2.2.1, g5 287 (by omega)]; exact h287
    · exact Z51_e h51 (e6 51 (by omega)) (e6 46 (by omega)) (e6 52 (by omega))
    · rw [e21] at g6; omega
    · exact St_s (St_k7 St4 R4.2.1.1 hR.1.1.2.1 fr45) (fun q hq => F57.2 q (by omega))
    · rw [e21] at g6
      unfold CST; omega
  · right
    exact ⟨e, t1, 1, 8, K, P, m3, by rw [u1, xt_tel u2.1], THI_tr FRo_rf ⟨hN.2.2.2.1, hN.2.2.2.2⟩ (Int.le_refl _) u2 (by omega) (by omega), rfl, MFI_tr MI2 (MFI_B u3)⟩

/-! THE READER: a name in a condition, whole -/
def NMD (G : CG) (L : Ly) (r : Nat) (W : Wv) (t : Sg) (m : Mu) (x : Option (((Nat ⊕ Option Nat) × Sg) × Nat × Nat)) (y : Option Mu) : Prop := TST G L r W 1 t m x y ∨ ∃ c t' cc nn m1 md, x = some ((.inr (some c), t'), cc, nn) ∧ y = some m1 ∧ DM G L r t c t' md ∧ MF m m1 2 (md.1 5) ∧ m.1 5 < md.1 5 ∧ cc ≤ 1 ∧ nn ≤ 3
theorem okN_y {nf nm v : Int} (h : 0 ≤ v) (h2 : v < nf) : okN nf nm ((0, v, 0, 1) : Nd) := by
  refine ⟨?_, ?_, fun _ => ⟨h, h2, ?_, ?_, ?_, ?_⟩, fun q => ?_⟩
  · show (0 : Int) ≤ 0; omega
  · show (0 : Int) ≤ 4; omega
  · show (0 : Int) ≤ 0; omega
  · show (0 : Int) ≤ 5; omega
  · show (0 : Int) ≤ 1; omega
  · show (1 : Int) ≤ 999999999; omega
  · have : (0 : Int) = 1 := q
    omega
theorem okN_g {nf nm v : Int} (h : 0 ≤ v) (h2 : v < nm) : okN nf nm ((1, v, 0, 1) : Nd) := by
  refine ⟨?_, ?_, fun q => ?_, fun _ => ⟨h, h2⟩⟩
  · show (0 : Int) ≤ 1; omega
  · show (1 : Int) ≤ 4; omega
  · have : (1 : Int) = 0 := q
    omega
theorem named7 {G : CG} {L : Ly} {t : Sg} {m : Mu} {r a w : Nat} {W : Wv} (h : CX G L t m r a w W) (h4 : m.1 4 = 1) (h46 : 0 ≤ m.1 46 ∧ m.1 46 ≤ 4000) : NMD G L r W t m (f7_named G (some r) t) (m5_part m) := by
  obtain ⟨hR, hc, ⟨hLK, h286⟩, ⟨hs, hw, h51⟩, hSt⟩ := id h
  have hNM : NM (zI t r 283) (m.1 6) := by
    rcases hR.2.2.1.2.2.2.2.2 with z | ⟨-, z | z | z | z⟩
    · exact absurd z.2.1 (by omega)
    · exact z.2.2
    · exact absurd z.2.1 (by omega)
    · exact absurd z.2.1 (by omega)
    · exact absurd z.2.1 (by omega)
  obtain ⟨v1, x1, x2, x3⟩ := lk_fact (G := G) hLK hs hw hNM
  obtain ⟨v2, y1, y2, y3⟩ := lk_mean (G := G) hLK hs hw hNM
  have hF8 : nF W ≤ 8 := hLK.2.1.2.1
  have hM12 : nM W ≤ 12 := hLK.2.1.2.2.2
  unfold f7_named m5_part
  rw [gfR_v hR.1.1.1 h286, Option.bind_some, gfI_e hR.1.1.1, Option.bind_some, ztg_e hLK.1.2, Option.bind_some, x1, Option.bind_some, Option.bind_some, Option.bind_some, ztg_e hLK.1.2, Option.bind_some, y1, Option.bind_some, h51, x2, Option.bind_some, y2, Option.bind_some]
  have b1 : v1 = -1 ∨ (0 ≤ v1 ∧ v1 < 8) := by rcases x3 with q | ⟨f, q1, q2⟩ <;> omega
  have b2 : v2 = -1 ∨ (0 ≤ v2 ∧ v2 < 12) := by rcases y3 with q | ⟨f, q1, q2⟩ <;> omega
  have w1 : w32 v1 = v1 := w32_id (by omega) (by omega)
  have w2 : w32 v2 = v2 := w32_id (by omega) (by omega)
  by_cases hne : 0 ≤ v1 ∨ 0 ≤ v2
  · -- known
    have key : NMD G L r W t m (f7_named_b45 G (some r) v1 v2 t) (m5_part_b40 v1 v2 m) := by
      unfold f7_named_b45 m5_part_b40
      rw [ztg_e hR.1.1.1, Option.bind_some]
      rcases node7 hR (by omega) hc with ⟨t1, n1, n2, n3, n4, n5, n6⟩ | ⟨e, t', m', n1, n2, n3, n4, -⟩
      · obtain ⟨m1, hm1⟩ : ∃ m1, m1 = ms m 52 (m.1 52 + 1) := ⟨_, rfl⟩
        rw [← hm1] at n2 n3
        have o1 : ∀ j, j ≠ 52 → m1.1 j = m.1 j := fun j hj => by rw [hm1, ms_1, if_neg hj]
        have e52 : m1.1 52 = m.1 52 + 1 := by rw [hm1, ms_1, if_pos rfl]
        have F1 : mfr [3, 4, 5, 6, 7, 46, 52] [42, 43, 44, 45] m m1 := by rw [hm1]; exact mfr_ms mfr_rf (by decide)
        have a12 : m1.2 = m.2 := by rw [hm1]; rfl
        rw [n1, te_ok]
        dsimp only
        rw [ztg_e n3.1.1.1, Option.bind_some, n2, Option.bind_some, n3.2.2.2.2.2, if_pos (by decide)]
        obtain ⟨kd, hkd⟩ : ∃ kd : Int, kd = if 0 ≤ v1 then W 14 v1.toNat else 0 := ⟨_, rfl⟩
        have e74 : (if 0 ≤ w32 v1 then (mald m1 14 112 (8 * (m1.1 51) + v1)).bind fun x2 => m5_part_b74 v1 v2 x2 m1 else m5_part_b74 v1 v2 0 m1) = m5_part_b74 v1 v2 kd m1 := by
          rw [w1, hkd]
          by_cases q : 0 ≤ v1
          · rw [if_pos q, if_pos q, o1 51 (by decide), h51]
            have e14 : mald m1 14 112 (8 * (w : Int) + v1) = some (W 14 v1.toNat) := by
              rw [mald_e (8 * w + v1.toNat) (by omega) (by omega) (by omega), a12, ← hs]
              show _ = some (if v1.toNat < 8 then m.2 14 (8 * w + v1.toNat) else 0)
              rw [if_pos (by omega)]
            rw [e14, Option.bind_some]
          · rw [if_neg q, if_neg q]
        rw [e74]
        obtain ⟨m2, k1, k2, k3, k4, k5, k6, k7⟩ := next7m n3 (by rw [o1 4 (by decide)]; omega) (by rw [e52, o1 5 (by decide)]; omega)
        rw [o1 5 (by decide)] at k5 k7
        have F2 : mfr [3, 4, 5, 6, 7, 46, 52] [42, 43, 44, 45] m m2 := mfr_tr F1 k4
        have F2' : mfr CS7 CA7 m m2 := mfr_up F2 (by decide) (by decide)
        have m246 : m2.1 46 = m.1 46 := by rw [k3 46 (by omega), o1 46 (by decide)]
        have m252 : m2.1 52 = m.1 52 + 1 := by rw [k3 52 (by omega), e52]
        have nd2 : ∀ j, ndN m2 j = ndN m j := fun j => by
          rw [nd_of (m := m1) (fun k _ => by rw [k2]) j]
          exact nd_of (fun k _ => by rw [a12]) j
        have kd02 : 0 ≤ kd ∧ kd ≤ 2 := by
          rw [hkd]
          split
          · next q =>
            rcases x3 with q' | ⟨f, q1, q2⟩
            · omega
            · obtain ⟨l, b, el, -, -, -, -, -, b6⟩ := hLK.2.2.1
              obtain ⟨-, -, -, -, -, -, -, g8, -⟩ := b6 f q1
              rw [q2, Int.toNat_natCast]; omega
          · omega
        have wk : w32 kd = kd := w32_id (by omega) (by omega)
        -- the twin at what follows
        have c100 : kd ≠ 0 → ∀ (K : Int), m2.1 8 = 0 → w32 (m2.1 4) = m2.1 4 → K = (if m2.1 4 = 5 then 1 else 2) → ∃ m', m5_part_b195 m2 = some m' ∧ MF m m' K (m2.1 5) := fun _ K h8 hw4 hK => by
          obtain ⟨m', e, hm⟩ := m_cannot h8 hw4
          rw [hK]
          exact ⟨m', by unfold m5_part_b195; rw [e]; rfl, MF_tr F2' hm⟩
        have yes2 : m5_part_b100 v1 v2 0 0 m2 = some (emN m2 (if 0 ≤ v1 then (0, v1, 0, 1) else (1, v2, 0, 1))) := m_yes (by omega) b1 b2 hne
        rcases k7 with ⟨t2, p1, p2, p3, p4, p5⟩ | ⟨e, t2, p1, p2, p3, p4⟩
        · -- next went well
          have fr2 : fr7 r t t2 := fr7_tr n4 p4
          have C2 : CX G L t2 m2 r a w W := CX_k h p2 p3 fr2 F2'
          obtain ⟨tk1, tk2⟩ := tk_w p2.2.2.1
          have hrN : r < zN t2 := p2.2.1.2.1
          have hGN : G0 G ≤ zN t2 := p2.2.1.1
          have hN2 := fr2.1.1
          have e74' : m5_part_b74 v1 v2 kd m1 = if tst m2 then m5_part_b100 v1 v2 kd 1 m2 else m5_part_b100 v1 v2 kd 0 m2 := by
            unfold m5_part_b74
            rw [k1, Option.bind_some]
            exact is3 p2 _ _
          rw [e74', p1, te_ok]
          dsimp only
          rw [w1]
          -- both made a leaf of the kind yes
          have leaf : ∀ (c : Nat) (t3 : Sg) (q : Nd), fr7 r t2 t3 → (∀ j, zI t3 r j = zI t2 r j) → CA (FN (zN t) W t3) G t3 1 c [q] → okN (nF W) (nM W) q → NO1 G L r W 1 t m c t3 (emN m2 q) := by
            intro c t3 q g1 g2 g3 g4
            have e46 : (m2.1 46).toNat = (m.1 46).toNat := by rw [m246]
            have ndi : ndN (emN m2 q) (m.1 46).toNat = q := by rw [emN_nd, if_pos e46.symm]
            have q52 : (emN m2 q).1 52 = m.1 52 + 1 := by rw [emN_fr.1 52 (by decide)]; exact m252
            refine ⟨R7_k (R7_m p2 (mfr_up emN_fr (by decide) (by decide))) g1 (fun j _ => g2 j), fr7_tr fr2 g1, by rw [g2, p5, n6], mfr_tr F2 (mfr_up emN_fr (by decide) (by decide)), by rw [emN_46, m246], fun i hi => by rw [emN_nd, if_neg (by omega), nd2], by rw [ndi]; exact g3, by rw [ndi]; exact g4, q52, ?_, ?_⟩
            · rw [q52, emN_fr.1 5 (by decide), ← m252]; exact p3
            · rw [emN_fr.1 5 (by decide)]; exact k5
          -- what follows when the leaf is of the kind yes
          have yesK : kd = 0 → ∀ (c : Nat) (t3 : Sg) (X : Option (((Nat ⊕ Option Nat) × Sg) × Nat × Nat)), X = some ((.inr (some c), t3), 0 + 1, 0 + 3) ∨ X = some ((.inr (some c), t3), 0 + 1, 0 + 1) → fr7 r t2 t3 → (∀ j, zI t3 r j = zI t2 r j) → c = zN t2 → zN t3 = zN t2 + 1 → (zT t3 c = 13 ∨ zT t3 c = 14) → CA (FN (zN t) W t3) G t3 1 c [(if 0 ≤ v1 then (0, v1, 0, 1) else (1, v2, 0, 1))] → okN (nF W) (nM W) (if 0 ≤ v1 then (0, v1, 0, 1) else (1, v2, 0, 1)) → NMD G L r W t m X (if tst m2 then m5_part_b100 v1 v2 kd 1 m2 else m5_part_b100 v1 v2 kd 0 m2) := by
            intro hk0 c t3 X hX g1 g2 g3 g4 g5 g6 g7
            rw [hk0]
            obtain ⟨sl, hX, hsl⟩ : ∃ sl, X = some ((.inr (some c), t3), 0 + 1, sl) ∧ sl ≤ 3 := by
              rcases hX with hX | hX
              · exact ⟨_, hX, by omega⟩
              · exact ⟨_, hX, by omega⟩
            by_cases ht : tst m2
            · right
              rw [if_pos ht]
              obtain ⟨m', em, hm, -⟩ := m_wrong p2.2.2.2.2.2 2
              refine ⟨c, t3, 0 + 1, sl, m', m2, hX, ?_, ⟨R7_k p2 g1 (fun j _ => g2 j), ht, fr7_tr fr2 g1, by rw [g2, p5, n6], ?_, by omega⟩, MF_tr F2' hm, k5, by omega, hsl⟩
              · unfold m5_part_b100
                rw [if_pos (by decide), if_neg (by decide), em]; rfl
              · rcases g5 with q | q <;> rw [q] <;> decide
            · left; left
              rw [if_neg ht, yes2]
              exact ⟨c, t3, 0 + 1, sl, _, hX, rfl, leaf c t3 _ g1 g2 g6 g7, by omega, hsl⟩
          by_cases q1 : 0 ≤ v1
          · -- a fact
            rw [if_pos q1]
            obtain ⟨f, hf, rfl⟩ : ∃ f : Nat, f < nF W ∧ v1 = (f : Int) := by
              rcases x3 with q | q
              · omega
              · exact q
            rw [if_pos q1, Int.toNat_natCast] at hkd
            obtain ⟨hLK2, h2862⟩ := C2.2.2.1
            obtain ⟨l, b, el, l1, l2, l3, l4, l5, l6⟩ := hLK2.2.2.1
            have hFZ := l6 f hf
            obtain ⟨z1, z2, z3, z4, -⟩ := id hFZ
            rw [gfR_v p2.1.1.1 h2862, Option.bind_some, gfR_v hLK2.1.2 l1, Option.bind_some, ztg_e l2.1, Option.bind_some, J_get l2 f rfl hf, Option.bind_some, l5 f hf, zcast_1 z2, Option.bind_some, gfI_v z2 z4, Option.bind_some, ← hkd, wk]
            by_cases hk0 : kd = 0
            · rw [if_pos hk0]
              obtain ⟨t3, ht3⟩ : ∃ t3, t3 = zsI (zsI (zsI (znew t2 14 0) (zN t2) 520 f) (zN t2) 521 1) (zN t2) 522 0 := ⟨_, rfl⟩
              have T3 : zT t3 (zN t2) = 14 := by rw [ht3]; show zT (znew t2 14 0) (zN t2) = 14; rw [znew_T, if_pos rfl]
              have s520 : zI t3 (zN t2) 520 = f := by rw [ht3, zsI_I, if_neg (fun q => absurd q.2 (by decide)), zsI_I, if_neg (fun q => absurd q.2 (by decide)), zsI_I, if_pos ⟨rfl, rfl⟩]
              have s521 : zI t3 (zN t2) 521 = 1 := by rw [ht3, zsI_I, if_neg (fun q => absurd q.2 (by decide)), zsI_I, if_pos ⟨rfl, rfl⟩]
              have s522 : zI t3 (zN t2) 522 = 0 := by rw [ht3, zsI_I, if_pos ⟨rfl, rfl⟩]
              have N3 : zN t3 = zN t2 + 1 := by rw [ht3]; rfl
              refine yesK hk0 (zN t2) t3 _ (Or.inl ?_) ?_ (fun j => ?_) rfl N3 (Or.inr T3) ?_ ?_
              · show ((f13_init G (some (zN t2)) f 1 0 (znew t2 14 0)).bind fun u23 => some ((Sum.inr (some (zN t2)), u23), 0, 0)).map _ = _
                rw [f13_e (by rw [znew_T, if_pos rfl]) hGN (Or.inl rfl), Option.bind_some, ← ht3]
                rfl
              · rw [ht3]
                exact fr7_zsI (fr7_zsI (fr7_zsI (fr7_znew fr7_rf hrN) (Nat.le_refl _) (by omega)) (Nat.le_refl _) (by omega)) (Nat.le_refl _) (by omega)
              · rw [ht3, zsI_I, if_neg (fun q => by have := q.1; omega), zsI_I, if_neg (fun q => by have := q.1; omega), zsI_I, if_neg (fun q => by have := q.1; omega), znew_I, if_neg (by omega)]
              · rw [if_pos q1]
                refine ⟨⟨by omega, by omega, fun _ => by rw [s520, Int.toNat_natCast, ← hkd, hk0]; exact ⟨hf, by decide⟩⟩, Or.inr (Or.inr (Or.inl ⟨T3, Or.inl s522, ?_⟩))⟩
                rw [s520, s521, s522, if_pos rfl]
              · rw [if_pos q1]
                exact okN_y q1 (Int.ofNat_lt.mpr hf)
            · rw [if_neg hk0, ztg_e p2.1.1.1, Option.bind_some]
              left
              -- no test: both say 2 here
              have no2 : (∃ m', (if tst m2 then m5_part_b100 f v2 kd 1 m2 else m5_part_b100 f v2 kd 0 m2) = (m5_part_b195 m2) ∧ m5_part_b195 m2 = some m') → TST G L r W 1 t m (f7_named_b136 G (some r) t2) (if tst m2 then m5_part_b100 f v2 kd 1 m2 else m5_part_b100 f v2 kd 0 m2) := by
                rintro ⟨m', e1, e2⟩
                right
                obtain ⟨t', e, hth⟩ := c_throw (α := Option Nat) p2 2
                obtain ⟨m'', em, hm⟩ := c100 hk0 2 p2.2.2.2.2.2 tk1.2.2.1 (by rw [if_neg (by omega)])
                exact ⟨_, t', 1, 8, 2, m2.1 5, m'', e, TH7_tr fr2 (by omega) hth (by omega) (by omega), by rw [e1]; exact em, Or.inl hm⟩
              obtain ⟨mx, emx, -⟩ := c100 hk0 2 p2.2.2.2.2.2 tk1.2.2.1 (by rw [if_neg (by omega)])
              rcases c_sgn p2 with ⟨s1, s2⟩ | ⟨s1, k, s2, s3, s4⟩
              · rw [s2, Option.bind_some, if_pos rfl]
                refine no2 ⟨mx, ?_, emx⟩
                rw [if_neg s1]
                unfold m5_part_b100
                rw [wk, if_neg hk0, if_pos (by decide)]
              · have hts : tst m2 := ⟨s1, by omega⟩
                rw [s4, Option.bind_some, if_neg (GS_n C2.2.2.2.2 s2), Option.bind_some, wk]
                have w7 : w32 (m2.1 7) = (k : Int) := by rw [s3]; exact w32_n (by omega)
                have goT : (kd = 2 ∨ (kd = 1 ∧ (k = 0 ∨ k = 5))) → (if tst m2 then m5_part_b100 f v2 kd 1 m2 else m5_part_b100 f v2 kd 0 m2) = m5_part_b200 f (W 14 f) m2 → TST G L r W 1 t m (f7_named_b149 G (some r) f (some (el f)) (GS G k) t2) (if tst m2 then m5_part_b100 f v2 kd 1 m2 else m5_part_b100 f v2 kd 0 m2) := by
                  intro g1 g2
                  rw [g2]
                  have hT := test7 C2 hf hFZ s2 s1 s3 (by omega) (by rw [← hkd]; exact g1)
                  rcases hT with ⟨c, t', cc, nn, m3, j1, j2, ⟨i1, i2, i3, i4, i5, i6, i7, i8, i9, i10, i11⟩, j4, j5⟩ | ⟨e, t', cc, nn, K, P, m3, j1, j2, j3, j4⟩
                  · left
                    rw [m246] at i5 i6 i7 i8
                    exact ⟨c, t', cc, nn, m3, j1, j2, ⟨i1, fr7_tr fr2 i2, by rw [i3, p5, n6], mfr_tr F2 i4, i5, fun i hi => by rw [i6 i hi, nd2], CA_mono (FN_dn hN2) i7, i8, by rw [i9, m252]; omega, i10, by omega⟩, j4, j5⟩
                  · right
                    refine ⟨e, t', cc, nn, K, P, m3, j1, TH7_tr fr2 (by omega) j2 (by omega) (by omega), j3, ?_⟩
                    rcases j4 with j4 | ⟨j4, i1, i2, i3, i4, i5, i6⟩
                    · exact Or.inl (MF_tr F2' j4)
                    · exact Or.inr ⟨j4, i1, i2, i3, mfr_tr F2 i4, by omega, by omega⟩
                by_cases hk1 : kd = 1
                · rw [if_pos hk1]
                  by_cases hk0' : k = 0
                  · rw [if_pos (show GS G k = GS G 0 by rw [hk0'])]
                    refine goT (Or.inr ⟨hk1, Or.inl hk0'⟩) ?_
                    rw [if_pos hts]
                    unfold m5_part_b100
                    rw [wk, if_neg hk0, if_neg (by decide), if_pos hk1, w7, if_pos (by omega), hkd]
                  · rw [if_neg (fun q => hk0' ((GS_i C2.2.2.2.2 s2 (by decide)).mp q))]
                    by_cases hk5 : k = 5
                    · rw [if_pos (show GS G k = GS G 5 by rw [hk5])]
                      refine goT (Or.inr ⟨hk1, Or.inr hk5⟩) ?_
                      rw [if_pos hts]
                      unfold m5_part_b100
                      rw [wk, if_neg hk0, if_neg (by decide), if_pos hk1, w7, if_neg (by omega), if_pos (by omega), hkd]
                    · rw [if_neg (fun q => hk5 ((GS_i C2.2.2.2.2 s2 (by decide)).mp q))]
                      refine no2 ⟨mx, ?_, emx⟩
                      rw [if_pos hts]
                      unfold m5_part_b100
                      rw [wk, if_neg hk0, if_neg (by decide), if_pos hk1, w7, if_neg (by omega), if_neg (by omega)]
                · rw [if_neg hk1]
                  refine goT (Or.inl (by omega)) ?_
                  rw [if_pos hts]
                  unfold m5_part_b100
                  rw [wk, if_neg hk0, if_neg (by decide), if_neg hk1, hkd]
          · -- a meaning
            rw [if_neg q1]
            rw [if_neg q1] at hkd
            obtain ⟨f, hf, rfl⟩ : ∃ f : Nat, f < nM W ∧ v2 = (f : Int) := by
              rcases y3 with q | q
              · omega
              · exact q
            obtain ⟨t3, ht3⟩ : ∃ t3, t3 = zsI (znew t2 13 0) (zN t2) 480 f := ⟨_, rfl⟩
            have T3 : zT t3 (zN t2) = 13 := by rw [ht3]; show zT (znew t2 13 0) (zN t2) = 13; rw [znew_T, if_pos rfl]
            have s480 : zI t3 (zN t2) 480 = f := by rw [ht3, zsI_I, if_pos ⟨rfl, rfl⟩]
            have N3 : zN t3 = zN t2 + 1 := by rw [ht3]; rfl
            refine yesK hkd (zN t2) t3 _ (Or.inr ?_) ?_ (fun j => ?_) rfl N3 (Or.inl T3) ?_ ?_
            · show ((f12_init G (some (zN t2)) f (znew t2 13 0)).bind fun u26 => some ((Sum.inr (some (zN t2)), u26), 0, 0)).map _ = _
              rw [f12_e (by rw [znew_T, if_pos rfl]) hGN, Option.bind_some, ← ht3]
              rfl
            · rw [ht3]
              exact fr7_zsI (fr7_znew fr7_rf hrN) (Nat.le_refl _) (by omega)
            · rw [ht3, zsI_I, if_neg (fun q => by have := q.1; omega), znew_I, if_neg (by omega)]
            · rw [if_neg q1]
              exact ⟨⟨by omega, by omega, fun q => absurd (T3.symm.trans q) (by decide)⟩, Or.inr (Or.inl ⟨T3, _, rfl, s480.symm, rfl⟩)⟩
            · rw [if_neg q1]
              exact okN_g (Int.natCast_nonneg f) (Int.ofNat_lt.mpr hf)
        · -- a bad token
          left; right
          rw [p1, xt_tel p2.1]
          have e74' : m5_part_b74 v1 v2 kd m1 = m5_part_b100 v1 v2 kd 0 m2 := by
            unfold m5_part_b74
            rw [k1, Option.bind_some, p3, if_neg (by decide)]
            rfl
          rw [e74']
          have hTH := TH7_tr n4 (Int.le_refl _) p2 (c1 := 1) (n1 := 8) (by omega) (by omega)
          by_cases hk0 : kd = 0
          · rw [hk0, yes2]
            refine ⟨e, t2, 1, 8, 1, m2.1 5, _, rfl, hTH, rfl, Or.inr ⟨rfl, ?_, ?_, ?_, mfr_tr F2 (mfr_up emN_fr (by decide) (by decide)), ?_, ?_⟩⟩
            · rw [emN_fr.1 8 (by decide)]; exact p4
            · rw [emN_fr.1 4 (by decide)]; exact p3
            · rw [emN_fr.1 5 (by decide)]
            · rw [emN_46, m246]; omega
            · rw [emN_46, m246]; omega
          · obtain ⟨m', em, hm⟩ := c100 hk0 1 p4 (by rw [p3]; decide) (by rw [if_pos p3])
            refine ⟨e, t2, 1, 8, 1, m2.1 5, m', rfl, hTH, ?_, Or.inl hm⟩
            unfold m5_part_b100
            rw [wk, if_neg hk0, if_pos (by decide)]; exact em
      · left; right
        rw [n1, xt_tel n2.1, n3, Option.bind_some, n4.1, if_neg (by decide)]
        exact ⟨e, t', 1, 8, 6, m.1 5, m', rfl, n2, rfl, Or.inl n4⟩
    rw [w1, w2]
    by_cases q : 0 ≤ v1
    · rw [if_pos q, if_pos q]; exact key
    · rw [if_neg q, if_neg q, if_pos (by omega), if_pos (by omega)]; exact key
  · rw [w1, w2, if_neg (by omega), if_neg (by omega), if_neg (by omega), if_neg (by omega)]
    left; right
    obtain ⟨t', e, hth⟩ := c_throw (α := Option Nat) hR 4
    obtain ⟨m', em, hm, -⟩ := m_wrong hR.2.2.2.2.2 4
    rw [em]
    exact ⟨_, t', 1, 8, 4, m.1 5, m', e, hth, rfl, Or.inl hm⟩

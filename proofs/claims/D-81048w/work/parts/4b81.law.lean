/-! THE READER: a law -/
theorem cond_bd {m : Mu} (h8 : m.1 8 = 0) (h4 : m.1 4 = 5) : ∃ m', m5_cond m = some m' ∧ MF m m' 1 (m.1 5) := by
  obtain ⟨m1, hm1⟩ : ∃ m1, m1 = ms (ms m 49 0) 50 0 := ⟨_, rfl⟩
  have o : ∀ k, k ≠ 49 → k ≠ 50 → m1.1 k = m.1 k := fun k a b => by rw [hm1, ms_1, if_neg b, ms_1, if_neg a]
  obtain ⟨m', e, hm⟩ := bad1 (m := m1) (by rw [o 8 (by decide) (by decide)]; exact h8) (by rw [o 4 (by decide) (by decide)]; exact h4)
  rw [o 5 (by decide) (by decide)] at hm
  obtain ⟨fu, hfu⟩ : ∃ fu, NN = fu + 2 := ⟨NN - 2, by have := NN_ge; omega⟩
  refine ⟨m', by rw [m_cond_TC, ← hm1, hfu]; exact e fu, MF_tr ?_ hm⟩
  rw [hm1]; exact mfr_ms (mfr_ms mfr_rf (by decide)) (by decide)
theorem R7_r {G : CG} {L : Ly} {t : Sg} {m : Mu} {r : Nat} {v : Option Nat} (h : R7 G L t m r) : R7 G L (zsR t (L.1 3) 4 v) m r := by
  obtain ⟨⟨⟨a1, a2, a3, a4⟩, ⟨b1, b2, b3, b4, b5, b6⟩, c1, c2⟩, h2⟩ := h
  exact ⟨⟨⟨a1, a2, by rw [zsR_R, if_neg (fun z => a4 z.1)]; exact a3, a4⟩, ⟨b1, b2, b3, b4, by rw [zsR_R, if_neg (fun z => absurd z.2 (by decide))]; exact b5, b6⟩, by rw [zsR_R, if_neg (fun z => absurd z.2 (by decide))]; exact c1, c2⟩, h2⟩
/-- the twin, behind the first token -/
noncomputable def TJ (v1 : Int) (u2 : Mu) : Option (Int × Mu) :=
  if (w32 (u2.1 4)) = 4 then
    if (w32 (u2.1 7)) < 26 then
      m5_judge_b80 v1 (-1) u2
    else
      if 28 < (w32 (u2.1 7)) then
        m5_judge_b80 v1 (-1) u2
      else
        (m5_next u2).bind fun u3 =>
        (m5_cond u3).bind fun u4 =>
        if (w32 (u4.1 8)) = 0 then
          if (w32 (u4.1 4)) = 0 then
            m5_judge_b84 v1 (u2.1 7) u4
          else
            (m5_cannot u4).bind fun u5 =>
            m5_judge_b84 v1 (u2.1 7) u5
        else
          m5_judge_b84 v1 (u2.1 7) u4
  else
    m5_judge_b80 v1 (-1) u2
/-- only the reader, new cells, and the field law have changed -/
def f4r (L : Ly) (r : Nat) (t t' : Sg) : Prop := gro t t' ∧ (∀ q, q < zN t → q ≠ r → q ≠ L.1 3 → sam t t' q) ∧ (zT t' (L.1 3) = zT t (L.1 3) ∧ zL t' (L.1 3) = zL t (L.1 3) ∧ zI t' (L.1 3) = zI t (L.1 3) ∧ zA t' (L.1 3) = zA t (L.1 3) ∧ zB t' (L.1 3) = zB t (L.1 3)) ∧ ∀ g, g ≠ 4 → zR t' (L.1 3) g = zR t (L.1 3) g
theorem f4r_7 {L : Ly} {r : Nat} {t t' : Sg} (h : fr7 r t t') (h3 : L.1 3 < zN t ∧ L.1 3 ≠ r) : f4r L r t t' := by
  have s := h.2.1 _ h3.1 h3.2
  exact ⟨h.1, fun q h1 h2 _ => h.2.1 q h1 h2, ⟨s.1, s.2.1, s.2.2.1, s.2.2.2.2.1, s.2.2.2.2.2⟩, fun g _ => by rw [s.2.2.2.1]⟩
theorem f4r_tr {L : Ly} {r : Nat} {a b c : Sg} (h : f4r L r a b) (k : f4r L r b c) : f4r L r a c := by
  obtain ⟨h1, h2, ⟨h3, h4, h5, h6, h7⟩, h8⟩ := h
  obtain ⟨k1, k2, ⟨k3, k4, k5, k6, k7⟩, k8⟩ := k
  exact ⟨gro_tr h1 k1, fun q a b c => sam_tr (h2 q a b c) (k2 q (by have := h1.1; omega) b c), ⟨k3.trans h3, k4.trans h4, k5.trans h5, k6.trans h6, k7.trans h7⟩, fun g hg => (k8 g hg).trans (h8 g hg)⟩
theorem f4r_4 {L : Ly} {r : Nat} {t : Sg} {v : Option Nat} : f4r L r t (zsR t (L.1 3) 4 v) := ⟨gro_rf, fun q _ _ h3 => sam_zsR sam_rf h3, ⟨rfl, rfl, rfl, rfl, rfl⟩, fun g hg => by rw [zsR_R, if_neg (fun z => hg z.2)]⟩
/-- what it comes to when it throws -/
def LWT (L : Ly) (r : Nat) (t : Sg) (m : Mu) (x : Option (((Nat ⊕ Int) × Sg) × Nat × Nat)) (v1 : Int) : Prop := ∃ e t' cc nn K P m' kd, x = some ((.inl e, t'), cc, nn) ∧ (zT t' e = 9 ∧ zI t' e 326 = K ∧ zI t' e 327 = P ∧ 1 ≤ K ∧ K ≤ 6) ∧ f4r L r t t' ∧ ((cc : Int) ≤ 20 * (P - m.1 5) + 1 ∧ (nn : Int) ≤ 600 * (P - m.1 5) + 8 ∧ P ≤ m.1 2) ∧ TJ v1 m = m5_judge_b84 v1 kd m' ∧ m'.1 8 = K ∧ m'.1 9 = P ∧ mfr CS7 CA7 m m'
theorem law7 {G : CG} {L : Ly} {r a w : Nat} {W : Wv} {t : Sg} {m : Mu} (h : CX G L t m r a w W) (h287 : zI t r 287 = 0) (h46 : m.1 46 = 0) (h52 : m.1 52 = 0) (g3 : G0 G ≤ L.1 3) (v1 : Int) : (∃ (kd c : Nat) (t' : Sg) (cc nn : Nat) (m' : Mu) (ns : List Nd), f7_law G (some r) t = some ((.inr (kd : Int), t'), cc, nn) ∧ kd ≤ 2 ∧ TJ v1 m = m5_judge_b84 v1 (26 + (kd : Int)) m' ∧ (R7 G L t' m' r ∧ m'.1 4 = 0 ∧ mfr CS7 CA7 m m' ∧ m.1 5 ≤ m'.1 5) ∧ (f4r L r t t' ∧ zR t' (L.1 3) 4 = some c) ∧ (m'.1 46 = (ns.length : Int) ∧ NDS m' 0 ns ∧ (∀ q ∈ ns, okN (nF W) (nM W) q) ∧ CA (FN (zN t) W t') G t' 100 c ns ∧ m'.1 52 = (ns.length : Int)) ∧ (cc : Int) ≤ 20 * (m'.1 5 - m.1 5) ∧ (nn : Int) ≤ 600 * (m'.1 5 - m.1 5)) ∨ LWT L r t m (f7_law G (some r) t) v1 := by
  have hR := h.1
  obtain ⟨k1, k2⟩ := tk_w hR.2.2.1
  have h8 : m.1 8 = 0 := hR.2.2.2.2.2
  have n3 : L.1 3 < zN t ∧ L.1 3 ≠ r := ⟨hR.2.1.2.2.1, fun e => hR.1.1.2.2.2 e.symm⟩
  have hj : Jt (m.1 2) m := ⟨⟨rfl, hR.1.2.1.2.2.1, hR.1.2.1.2.2.2.1⟩, ⟨by have := hR.2.2.1.2.2; omega, by have := hR.2.2.1.2.2; omega⟩, by have := hR.2.2.1.2.2; omega, Or.inl h8⟩
  -- no law
  have none : (m.1 4 = 4 → ¬ (26 ≤ m.1 7 ∧ m.1 7 ≤ 28)) → LWT L r t m (f7_law_b43 G (some r) (-1) t) v1 := fun hno => by
    obtain ⟨t', e1, hth⟩ := c_throw (α := Int) hR 2
    obtain ⟨m', em, hm⟩ := m_cannot h8 k1.2.2.1
    rw [if_neg (by omega)] at hm
    obtain ⟨r1, ⟨r2, r2'⟩, r3, r4, r5, r6, r7, r8⟩ := hth
    refine ⟨_, t', 1, 8, 2, m.1 5, m', -1, ?_, ⟨r1, r2, r3, by omega, by omega⟩, f4r_7 r5 n3, ⟨by omega, by omega, hj.2.2.1⟩, ?_, hm.1, hm.2.1, hm.2.2⟩
    · unfold f7_law_b43
      rw [if_neg (show ¬ 0 ≤ w32 (-1) by decide)]
      exact e1
    · unfold TJ m5_judge_b80
      rw [em, Option.bind_some]
      by_cases z : m.1 4 = 4
      · have := hno z
        rw [k1.2.2.1, if_pos z, (k2 (by omega)).1]
        by_cases z1 : m.1 7 < 26
        · rw [if_pos z1]
        · rw [if_neg z1, if_pos (by omega)]
      · rw [k1.2.2.1, if_neg z]
  -- a law of the kind kd
  have some' : ∀ kd : Nat, kd ≤ 2 → m.1 4 = 4 → m.1 7 = 26 + (kd : Int) → (∃ (c : Nat) (t' : Sg) (cc nn : Nat) (m' : Mu) (ns : List Nd), f7_law_b43 G (some r) (kd : Int) t = some ((.inr (kd : Int), t'), cc, nn) ∧ TJ v1 m = m5_judge_b84 v1 (26 + (kd : Int)) m' ∧ (R7 G L t' m' r ∧ m'.1 4 = 0 ∧ mfr CS7 CA7 m m' ∧ m.1 5 ≤ m'.1 5) ∧ (f4r L r t t' ∧ zR t' (L.1 3) 4 = some c) ∧ (m'.1 46 = (ns.length : Int) ∧ NDS m' 0 ns ∧ (∀ q ∈ ns, okN (nF W) (nM W) q) ∧ CA (FN (zN t) W t') G t' 100 c ns ∧ m'.1 52 = (ns.length : Int)) ∧ (cc : Int) ≤ 20 * (m'.1 5 - m.1 5) ∧ (nn : Int) ≤ 600 * (m'.1 5 - m.1 5)) ∨ LWT L r t m (f7_law_b43 G (some r) (kd : Int) t) v1 := fun kd hkd z4 z7 => by
    have eT : TJ v1 m = (m5_next m).bind fun u3 => (m5_cond u3).bind fun u4 => if (w32 (u4.1 8)) = 0 then if (w32 (u4.1 4)) = 0 then m5_judge_b84 v1 (26 + (kd : Int)) u4 else (m5_cannot u4).bind fun u5 => m5_judge_b84 v1 (26 + (kd : Int)) u5 else m5_judge_b84 v1 (26 + (kd : Int)) u4 := by
      unfold TJ
      rw [k1.2.2.1, if_pos z4, (k2 (by omega)).1, if_neg (by omega), if_neg (by omega), z7]
    unfold f7_law_b43
    rw [if_pos (by rw [w32_n (by omega)]; omega), ztg_e hR.1.1.1, Option.bind_some]
    obtain ⟨m1, e1, fr1, n5⟩ := next8 hR (by omega) (by have := h.2.1; omega)
    have j1 := J_next hj _ e1
    rcases n5 with ⟨t1, p1, p2, p3, p4, p5, p6, p7, p8, p9⟩ | ⟨e, t1, p1, p2, p3, p4, p5, p6⟩
    · rw [p1, te_ok]
      dsimp only
      have C1 : CX G L t1 m1 r a w W := CX_k h p2 p3 p4 fr1
      have f41 := f4r_7 p4 n3
      rw [gfR_v p2.1.1.1 p2.1.1.2.2.1, Option.bind_some, ztg_e p2.1.1.1, Option.bind_some]
      have m146 : m1.1 46 = 0 := by rw [p9 46 (by omega)]; exact h46
      have m152 : m1.1 52 = 0 := by rw [p9 52 (by omega)]; exact h52
      have n31 : L.1 3 < zN t1 ∧ L.1 3 ≠ r := ⟨by have := p4.1.1; omega, n3.2⟩
      rcases cond7 C1 (by rw [p6 287 (by omega)]; exact h287) (by rw [m146]; exact Int.le_refl _) (by rw [m146]; exact p2.2.2.1.2.2.1) with ⟨c, t2, cc, nn, m2, ns, x1, x2, ⟨x3, x4, x5, x6⟩, ⟨x7, x8, x9, x10, x11⟩, x12, x13, x14⟩ | ⟨e, t2, cc, nn, K, P, m2, x1, x2, x3, x4⟩ | ⟨c, t2, cc, nn, m2, md, x1, x2, x3, x4, x5, x6, x7⟩
      · rw [x1, te_okc]
        dsimp only
        have hR2 := x3.1
        have T32 : zT t2 (L.1 3) = 1 := hR2.1.2.1.1
        rw [pfR_e T32 g3, Option.bind_some]
        have hR3 := R7_r (v := some c) hR2
        rw [ztg_e hR3.1.1.1, Option.bind_some]
        have f42 : f4r L r t (zsR t2 (L.1 3) 4 (some c)) := f4r_tr f41 (f4r_tr (f4r_7 x4 n31) f4r_4)
        obtain ⟨c1, c2, c3, c4⟩ := x14
        rcases want_kind (K := 0) hR3 (by omega) with ⟨y1, y2⟩ | ⟨y1, e, t4, y2, y3⟩
        · left
          rw [y2, te_ok]
          refine ⟨c, _, cc, nn, m2, ns, by simp, ?_, ⟨hR3, y1, mfr_tr fr1 x6, by omega⟩, ⟨f42, by rw [zsR_R, if_pos ⟨rfl, rfl⟩]⟩, ⟨by rw [x7, m146]; omega, ?_, x12, ?_, by rw [x10, m152]; omega⟩, by omega, by omega⟩
          · rw [eT, e1, Option.bind_some, x2, Option.bind_some, hR2.2.2.2.2.2, if_pos (by decide), y1, if_pos (by decide)]
          · rw [m146] at x8; exact x8
          · refine CA_sam (fun q hq => ⟨⟨by have := hq.1; omega, hq.2.1, hq.2.2⟩, sam_zsR sam_rf (fun e => ?_)⟩) gro_rf _ _ _ x13
            have := hq.1
            rw [e] at this; omega
        · right
          obtain ⟨m4, em, hm⟩ := m_cannot (m := m2) hR2.2.2.2.2.2 (tk_w hR2.2.2.1).1.2.2.1
          have := (tk_w hR2.2.2.1).1
          rw [if_neg (by omega)] at hm
          obtain ⟨r1, ⟨r2, r2'⟩, r3, r4, r5, r6, r7, r8⟩ := y3
          rw [y2, xt_tel r1]
          refine ⟨e, t4, 1 + cc, 8 + nn, 2, m2.1 5, m4, 26 + (kd : Int), rfl, ⟨r1, r2, r3, by omega, by omega⟩, f4r_tr f42 (f4r_7 r5 ⟨by have := x4.1.1; show L.1 3 < zN t2; omega, n3.2⟩), ⟨by omega, by omega, (J_cond j1 _ x2).2.2.1⟩, ?_, hm.1, hm.2.1, mfr_tr fr1 (mfr_tr x6 hm.2.2)⟩
          rw [eT, e1, Option.bind_some, x2, Option.bind_some, hR2.2.2.2.2.2, if_pos (by decide), this.2.2.1, if_neg y1, em, Option.bind_some]
      · right
        obtain ⟨r1, ⟨r2, r2'⟩, r3, r4, r5, r6, r7, r8⟩ := x2
        rw [x1, xt_tel r1]
        rcases x4 with hm | ⟨q1, q2, q3, q4, q5⟩
        · refine ⟨e, t2, cc, nn, K, P, m2, 26 + (kd : Int), rfl, ⟨r1, r2, r3, by omega, by omega⟩, f4r_tr f41 (f4r_7 r5 n31), ⟨by omega, by omega, by
            rcases (J_cond j1 _ x3).2.2.2 with z | z
            · rw [hm.1] at z; omega
            · rw [hm.2.1] at z; exact z⟩, ?_, hm.1, hm.2.1, mfr_tr fr1 hm.2.2⟩
          rw [eT, e1, Option.bind_some, x3, Option.bind_some, hm.1, w32_id (by omega) (by omega), if_neg (by omega)]
        · obtain ⟨m4, em, hm⟩ := m_cannot (m := m2) q2 (by rw [q3]; decide)
          rw [if_pos q3, q4] at hm
          subst q1
          refine ⟨e, t2, cc, nn, 1, P, m4, 26 + (kd : Int), rfl, ⟨r1, r2, r3, by omega, by omega⟩, f4r_tr f41 (f4r_7 r5 n31), ⟨by omega, by omega, by rw [← q4]; exact (J_cond j1 _ x3).2.2.1⟩, ?_, hm.1, hm.2.1, mfr_tr fr1 (mfr_tr q5 hm.2.2)⟩
          rw [eT, e1, Option.bind_some, x3, Option.bind_some, q2, if_pos (by decide), q3, if_neg (by decide), em, Option.bind_some]
      · right
        obtain ⟨d1, d2, d3, d4, d5, d6⟩ := x2
        rw [x1, te_okc]
        dsimp only
        have T32 : zT t2 (L.1 3) = 1 := d1.1.2.1.1
        rw [pfR_e T32 g3, Option.bind_some]
        have hR3 := R7_r (v := some c) d1
        rw [ztg_e hR3.1.1.1, Option.bind_some]
        have f42 : f4r L r t (zsR t2 (L.1 3) 4 (some c)) := f4r_tr f41 (f4r_tr (f4r_7 d3 n31) f4r_4)
        rcases want_kind (K := 0) hR3 (by omega) with ⟨y1, y2⟩ | ⟨y1, e, t4, y2, y3⟩
        · have := d2.1; omega
        · obtain ⟨r1, ⟨r2, r2'⟩, r3, r4, r5, r6, r7, r8⟩ := y3
          rw [y2, xt_tel r1]
          refine ⟨e, t4, 1 + cc, 8 + nn, 2, md.1 5, m2, 26 + (kd : Int), rfl, ⟨r1, r2, r3, by omega, by omega⟩, f4r_tr f42 (f4r_7 r5 ⟨by have := d3.1.1; show L.1 3 < zN t2; omega, n3.2⟩), ⟨by omega, by omega, by
            rcases (J_cond j1 _ x3).2.2.2 with z | z
            · rw [x4.1] at z; omega
            · rw [x4.2.1] at z; exact z⟩, ?_, x4.1, x4.2.1, mfr_tr fr1 x4.2.2⟩
          rw [eT, e1, Option.bind_some, x3, Option.bind_some, x4.1, if_neg (by decide)]
    · right
      obtain ⟨r1, ⟨r2, r2'⟩, r3, r4, r5, r6, r7, r8⟩ := p2
      obtain ⟨m2, x2, hm⟩ := cond_bd p4 p3
      rw [p1, xt_tel r1]
      refine ⟨e, t1, 1, 8, 1, m1.1 5, m2, 26 + (kd : Int), rfl, ⟨r1, r2, r3, by omega, by omega⟩, f4r_7 r5 n3, ⟨by omega, by omega, j1.2.2.1⟩, ?_, hm.1, hm.2.1, mfr_tr fr1 hm.2.2⟩
      rw [eT, e1, Option.bind_some, x2, Option.bind_some, hm.1, if_neg (by decide)]
  unfold f7_law
  rw [ztg_e hR.1.1.1, Option.bind_some, c_is hR (j := 26) (by decide) (show (107118487239027 : Int) = (enc 256 (wdC 26) : Nat) by decide), Option.bind_some, w32_b2i, ite_b2i, Option.bind_some, c_is hR (j := 27) (by decide) (show (474148660594 : Int) = (enc 256 (wdC 27) : Nat) by decide), Option.bind_some, w32_b2i, ite_b2i, Option.bind_some, c_is hR (j := 28) (by decide) (show (7168377 : Int) = (enc 256 (wdC 28) : Nat) by decide), Option.bind_some, w32_b2i, ite_b2i]
  have put : ∀ kd : Nat, kd ≤ 2 → m.1 4 = 4 → m.1 7 = 26 + (kd : Int) → (∃ (kd' c : Nat) (t' : Sg) (cc nn : Nat) (m' : Mu) (ns : List Nd), f7_law_b43 G (some r) (kd : Int) t = some ((.inr (kd' : Int), t'), cc, nn) ∧ kd' ≤ 2 ∧ TJ v1 m = m5_judge_b84 v1 (26 + (kd' : Int)) m' ∧ (R7 G L t' m' r ∧ m'.1 4 = 0 ∧ mfr CS7 CA7 m m' ∧ m.1 5 ≤ m'.1 5) ∧ (f4r L r t t' ∧ zR t' (L.1 3) 4 = some c) ∧ (m'.1 46 = (ns.length : Int) ∧ NDS m' 0 ns ∧ (∀ q ∈ ns, okN (nF W) (nM W) q) ∧ CA (FN (zN t) W t') G t' 100 c ns ∧ m'.1 52 = (ns.length : Int)) ∧ (cc : Int) ≤ 20 * (m'.1 5 - m.1 5) ∧ (nn : Int) ≤ 600 * (m'.1 5 - m.1 5)) ∨ LWT L r t m (f7_law_b43 G (some r) (kd : Int) t) v1 := fun kd hkd z4 z7 => by
    rcases some' kd hkd z4 z7 with ⟨c, t', cc, nn, m', ns, y1, y2⟩ | y
    · exact Or.inl ⟨kd, c, t', cc, nn, m', ns, y1, hkd, y2⟩
    · exact Or.inr y
  by_cases z0 : m.1 4 = 4 ∧ m.1 7 = ((26 : Nat) : Int)
  · rw [if_pos z0]; exact put 0 (by omega) z0.1 (by rw [z0.2]; rfl)
  · rw [if_neg z0]
    by_cases z1 : m.1 4 = 4 ∧ m.1 7 = ((27 : Nat) : Int)
    · rw [if_pos z1]; exact put 1 (by omega) z1.1 (by rw [z1.2]; rfl)
    · rw [if_neg z1]
      by_cases z2 : m.1 4 = 4 ∧ m.1 7 = ((28 : Nat) : Int)
      · rw [if_pos z2]; exact put 2 (by omega) z2.1 (by rw [z2.2]; rfl)
      · rw [if_neg z2]
        exact Or.inr (none (fun q => by omega))

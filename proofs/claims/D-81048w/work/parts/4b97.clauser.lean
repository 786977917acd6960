/-! ENDORSE: a clause, read over a wording that stands -/
def CE7 : List Nat := [3, 4, 5, 6, 7, 8, 9, 46, 49, 50, 52, 56]
def AE7 : List Nat := [42, 43, 44, 45, 48, 53, 54, 55]
theorem MI_E {m m' : Mu} (h : mfr CE7 AE7 m m') : MI m m' := ⟨mfr_up h (by decide) (by decide), fun w _ => slc_fr h (by decide)⟩
theorem NDS_e {m m' : Mu} (h : ∀ k, ndN m' k = ndN m k) : ∀ (ns : List Nd) (k : Nat), NDS m k ns → NDS m' k ns := by
  intro ns
  induction ns with
  | nil => intro k hk; exact hk
  | cons q ns ih => intro k hk; exact ⟨by rw [h]; exact hk.1, ih _ hk.2⟩
/-- a clause was read: its cell x, its nodes ns -/
def CLG (G : CG) (L : Ly) (r a w n kd : Nat) (W : Wv) (t : Sg) (m : Mu) (x c : Nat) (t' : Sg) (m' : Mu) (ns : List Nd) : Prop := (CX G L t' m' r a w W ∧ zI t' r 287 = 0 ∧ fr7 r t t') ∧ (zT t' x = 17 ∧ zN t ≤ x ∧ x < zN t' ∧ zI t' x 640 = (kd : Int) ∧ zI t' x 642 = (ns.length : Int) ∧ zR t' x 641 = some c) ∧ (m'.1 46 = m.1 46 + (ns.length : Int) ∧ m'.1 52 = m.1 52 + (ns.length : Int) ∧ NDS m' (m.1 46).toNat ns ∧ (∀ i, i < (m.1 46).toNat → ndN m' i = ndN m i) ∧ (∀ q ∈ ns, okN (nF W) (nM W) q) ∧ CA (FN (zN t) W t') G t' 100 c ns ∧ m'.1 46 ≤ m'.1 5) ∧ (m'.1 56 = (n : Int) + 1 ∧ m'.2 53 n = (kd : Int) ∧ m'.2 54 n = m.1 46 ∧ m'.2 55 n = m'.1 46 ∧ ∀ j, j ≠ n → m'.2 53 j = m.2 53 j ∧ m'.2 54 j = m.2 54 j ∧ m'.2 55 j = m.2 55 j) ∧ mfr CE7 AE7 m m'
theorem clauseR {G : CG} {L : Ly} {r a w n kd : Nat} {t : Sg} {m : Mu} {W : Wv} (h : CX G L t m r a w W) (h287 : zI t r 287 = 0) (h46 : 0 ≤ m.1 46) (hJ : m.1 46 ≤ m.1 5) (h4 : m.1 4 = 4) (hkd : kd < 3) (h7 : m.1 7 = 6 + (kd : Int)) (hn : m.1 56 = (n : Int)) (hn2 : n < 1400) : (∃ x c t' cc nn m' ns, f7_clause_b29 G (some r) kd t = some ((.inr (some x), t'), cc, nn) ∧ m5_readClause m = some m' ∧ CLG G L r a w n kd W t m x c t' m' ns ∧ (m.1 5 + 3 ≤ m'.1 5 ∧ (cc : Int) + 45 ≤ 20 * (m'.1 5 - m.1 5) ∧ (nn : Int) + 1490 ≤ 600 * (m'.1 5 - m.1 5))) ∨ (∃ e t' cc nn K P m', f7_clause_b29 G (some r) kd t = some ((.inl e, t'), cc, nn) ∧ TH7 r t (m.1 5) e t' cc nn K P ∧ m5_readClause m = some m' ∧ MFI m m' K P) := by
  obtain ⟨hR, hc, ⟨hLK, h286⟩, ⟨hsl, hw, h51⟩, hSt⟩ := id h
  unfold f7_clause_b29 m5_readClause
  rw [ztg_e hR.1.1.1, Option.bind_some, mast_e n hn (by omega) (by omega), Option.bind_some]
  obtain ⟨m1, hm1⟩ : ∃ m1, m1 = ma m 53 n (m.1 7 - 6) := ⟨_, rfl⟩
  rw [← hm1]
  have e11 : m1.1 = m.1 := by rw [hm1]; rfl
  have R1 : R7 G L t m1 r := R7_a hR e11 (by rw [hm1, ma_o (by decide)]) (by rw [hm1, ma_o (by decide)])
  have MI1 : mfr CE7 AE7 m m1 := by rw [hm1]; exact mfr_ma mfr_rf (by decide)
  obtain ⟨m2, n1, n2, n3⟩ := next8 R1 (by rw [e11]; omega) (by rw [e11]; omega)
  rw [n1, Option.bind_some]
  rw [e11] at n3
  have MI2 : mfr CE7 AE7 m m2 := mfr_tr MI1 (mfr_up n2 (by decide) (by decide))
  have o56 : m2.1 56 = (n : Int) := by rw [n2.1 56 (by decide), e11]; exact hn
  rw [mast_e n o56 (by omega) (by omega), Option.bind_some]
  obtain ⟨m3, hm3⟩ : ∃ m3, m3 = ma m2 54 n (m2.1 46) := ⟨_, rfl⟩
  rw [← hm3]
  have e31 : m3.1 = m2.1 := by rw [hm3]; rfl
  have MI3 : mfr CE7 AE7 m m3 := mfr_tr MI2 (by rw [hm3]; exact mfr_ma mfr_rf (by decide))
  rcases n3 with ⟨t1, p1, p2⟩ | ⟨e, t1, p1, p2, p3, p4, p5, p6⟩
  · obtain ⟨f1, f2, f3, f4, f5, f6, f7, f8⟩ := p2
    rw [e11] at f6
    rw [p1, te_ok]
    dsimp only
    have R3 : R7 G L t1 m3 r := R7_a f1 e31 (by rw [hm3, ma_o (by decide)]) (by rw [hm3, ma_o (by decide)])
    have a3 : ∀ k, k ≠ 53 → k ≠ 54 → m3.2 k = m.2 k := fun k k1 k2 => by rw [hm3, ma_o k2, f7, hm1, ma_o k1]
    have F3 : mfr CS7 [53, 54] m m3 := ⟨fun k hk => by rw [e31, n2.1 k hk, e11], fun k hk => a3 k (fun e => hk (by rw [e]; decide)) (fun e => hk (by rw [e]; decide))⟩
    have CX3 : CX G L t1 m3 r a w W := ⟨R3, by rw [e31]; exact f2, ⟨LK_k (ZO_k f3) f3.1 hLK, by rw [f3.2.2.2.1]; exact h286⟩, ⟨by rw [slc_fr F3 (by decide)]; exact hsl, hw, by rw [F3.1 51 (by decide)]; exact h51⟩, St_k7 hSt hR.2.1.1 hR.1.1.2.1 f3⟩
    have e46 : m3.1 46 = m.1 46 := by rw [e31, f8 46 (by omega), e11]
    have e52 : m3.1 52 = m.1 52 := by rw [e31, f8 52 (by omega), e11]
    have g288 : zI t1 r 288 = m3.1 52 := R3.2.2.2.1.1
    rw [gfI_v f1.1.1.1 g288, Option.bind_some, ztg_e f1.1.1.1, Option.bind_some]
    rcases cond7 CX3 (by rw [f5 287 (by omega)]; exact h287) (by rw [e46]; exact h46) (by rw [e46, e31]; omega) with ⟨c, t2, cc, nn, m4, ns, x1, x2, ⟨x3, x4, x5, x6⟩, ⟨x7, x8, x9, x10, x11⟩, x12, x13, x14⟩ | ⟨e, t2, cc, nn, K, P, m4, x1, x2, x3, x4⟩ | ⟨c, t2, cc, nn, m4, md, x1, x2, x3, x4, x5, x6, x7⟩
    · have n4 : m4.1 56 = (n : Int) := by rw [x6.1 56 (by decide), e31]; exact o56
      rw [x2, Option.bind_some, mast_e n n4 (by omega) (by omega), Option.bind_some, Option.bind_some]
      obtain ⟨m5, hm5⟩ : ∃ m5, m5 = ms (ma m4 55 n (m4.1 46)) 56 ((ma m4 55 n (m4.1 46)).1 56 + 1) := ⟨_, rfl⟩
      rw [← hm5]
      have o5 : ∀ j, j ≠ 56 → m5.1 j = m4.1 j := fun j hj => by rw [hm5, ms_1, if_neg hj]; rfl
      have e556 : m5.1 56 = (n : Int) + 1 := by rw [hm5, ms_1, if_pos rfl]; show m4.1 56 + 1 = _; rw [n4]
      have a5 : ∀ k, k ≠ 55 → m5.2 k = m4.2 k := fun k hk => by rw [hm5, ms_2, ma_o hk]
      have R5 : R7 G L t2 m5 r := R7_b x3.1 (fun j hj => o5 j (by omega)) (a5 0 (by decide)) (a5 1 (by decide))
      have MI5 : mfr CE7 AE7 m m5 := mfr_tr MI3 (mfr_tr (mfr_up x6 (by decide) (by decide)) (by rw [hm5]; exact mfr_ms (mfr_ma mfr_rf (by decide)) (by decide)))
      have c52 := x3.2.1
      obtain ⟨c1, c2, c3, c4⟩ := x14
      rw [e31] at c1 c3 c4
      obtain ⟨m6, v1, v2⟩ := want7 R5 (by rw [o5 52 (by decide), o5 5 (by decide)]; omega) (j := 6) (by decide) (l := 59) (v := 6) rfl rfl
      rw [v1, Option.bind_some]
      rw [x1, te_okc]
      dsimp only
      rw [ztg_e x3.1.1.1.1, Option.bind_some]
      rw [o5 5 (by decide)] at v2
      have fr02 : fr7 r t t2 := fr7_tr f3 x4
      rcases v2 with ⟨t3, u1, u2⟩ | ⟨e, t3, K, P, u1, u2, u3⟩
      · left
        obtain ⟨g1, g2, g3, g4, g5, g6, g7, g8⟩ := u2
        have hrN := g1.2.1.2.1
        have hGN := g1.2.1.1
        obtain ⟨t4, ht4⟩ : ∃ t4, t4 = zsI (zsR (zsI (znew t3 17 0) (zN t3) 640 kd) (zN t3) 641 (some c)) (zN t3) 642 (m6.1 52 - m3.1 52) := ⟨_, rfl⟩
        have T4 : zT t4 (zN t3) = 17 := by rw [ht4]; show zT (znew t3 17 0) (zN t3) = 17; rw [znew_T, if_pos rfl]
        have fr4 : fr7 r t3 t4 := by
          rw [ht4]
          exact fr7_zsI (fr7_zsR (fr7_zsI (fr7_znew fr7_rf hrN) (Nat.le_refl _) (by omega)) (Nat.le_refl _) (by omega)) (Nat.le_refl _) (by omega)
        have N4 : zN t4 = zN t3 + 1 := by rw [ht4]; rfl
        have I4r : ∀ j, zI t4 r j = zI t3 r j := fun j => by rw [ht4, zsI_I, if_neg (fun q => by have := q.1; omega), zsR_I, zsI_I, if_neg (fun q => by have := q.1; omega), znew_I, if_neg (by omega)]
        have s640 : zI t4 (zN t3) 640 = kd := by rw [ht4, zsI_I, if_neg (fun q => absurd q.2 (by decide)), zsR_I, zsI_I, if_pos ⟨rfl, rfl⟩]
        have s642 : zI t4 (zN t3) 642 = m6.1 52 - m3.1 52 := by rw [ht4, zsI_I, if_pos ⟨rfl, rfl⟩]
        have s641 : zR t4 (zN t3) 641 = some c := by rw [ht4]; show zR (zsR (zsI (znew t3 17 0) (zN t3) 640 kd) (zN t3) 641 (some c)) (zN t3) 641 = _; rw [zsR_R, if_pos ⟨rfl, rfl⟩]
        have eC : (bdU (zNew t3 17 3) fun q14 => (gfI q14.2 8 288 (some r)).bind fun x15 => (f16_init G (some q14.1) kd (some c) (x15 - m3.1 52) q14.2).bind fun u16 => (some ((.inr (some q14.1), u16), 0, 0) : Option (((Nat ⊕ Option Nat) × Sg) × Nat × Nat))) = some ((.inr (some (zN t3)), t4), 1, 3) := by
          show ((gfI (znew t3 17 0) 8 288 (some r)).bind _).map _ = _
          rw [gfI_v (r := m6.1 52) (by rw [znew_T, if_neg (by omega)]; exact g1.1.1.1) (by rw [znew_I, if_neg (by omega)]; exact g1.2.2.2.1.1), Option.bind_some, f16_e (by rw [znew_T, if_pos rfl]) hGN, Option.bind_some, ← ht4]
          rfl
        have R4 : R7 G L t4 m6 r := R7_k g1 fr4 (fun j _ => I4r j)
        have fr24 : fr7 r t2 t4 := fr7_tr g3 fr4
        have fr04 : fr7 r t t4 := fr7_tr fr02 fr24
        have e6 : ∀ j, (j < 3 ∨ 7 < j) → j ≠ 56 → m6.1 j = m4.1 j := fun j h1 h2 => by rw [g8 j h1, o5 j h2]
        have a6 : ∀ k, k ≠ 55 → m6.2 k = m4.2 k := fun k hk => by rw [g7, a5 k hk]
        have nd6 : ∀ k, ndN m6 k = ndN m4 k := fun k => nd_of (fun j hj => a6 j (by omega)) k
        have a655 : ∀ k, m6.2 55 k = if k = n then m4.1 46 else m4.2 55 k := fun k => by rw [g7, hm5, ms_2, ma_s]
        have MI6 : mfr CE7 AE7 m m6 := mfr_tr MI5 ⟨fun k hk => g8 k (by simp only [CE7, List.mem_cons, List.not_mem_nil, or_false] at hk; omega), fun k _ => by rw [g7]⟩
        have e646 : m6.1 46 = m4.1 46 := e6 46 (by omega) (by decide)
        have m454 : ∀ k, m4.2 54 k = if k = n then m.1 46 else m.2 54 k := fun k => by rw [x6.2 54 (by decide), hm3, ma_s, f7, hm1, ma_o (by decide), ← e31, e46]
        have m453 : ∀ k, m4.2 53 k = if k = n then (kd : Int) else m.2 53 k := fun k => by rw [x6.2 53 (by decide), hm3, ma_o (by decide), f7, hm1, ma_s, show m.1 7 - 6 = (kd : Int) by omega]
        have m455 : m4.2 55 = m.2 55 := by rw [x6.2 55 (by decide), a3 55 (by decide) (by decide)]
        refine ⟨zN t3, c, t4, 1 + cc, 3 + nn, m6, ns, ?_, rfl, ⟨⟨⟨R4, g2, ⟨LK_k (ZO_k fr04) fr04.1 hLK, by rw [fr04.2.2.2.1]; exact h286⟩, ⟨by rw [slc_fr MI6 (by decide)]; exact hsl, hw, by rw [MI6.1 51 (by decide)]; exact h51⟩, St_k7 hSt hR.2.1.1 hR.1.1.2.1 fr04⟩, by rw [I4r, g5 287 (by omega)]; exact x5, fr04⟩, ⟨T4, by have := fr02.1.1; have := g3.1.1; omega, by omega, s640, ?_, s641⟩, ⟨by rw [e646, x7, e46], by rw [e6 52 (by omega) (by decide), x10, e52], ?_, fun i hi => by rw [nd6, x9 i (by rw [e46]; exact hi)]; exact nd_of (fun j hj => a3 j (by omega) (by omega)) i, x12, ?_, ?_⟩, ⟨by rw [g8 56 (by omega), e556], by rw [a6 53 (by decide), m453, if_pos rfl], by rw [a6 54 (by decide), m454, if_pos rfl], by rw [a655, if_pos rfl, e646], fun j hj => ⟨by rw [a6 53 (by decide), m453, if_neg hj], by rw [a6 54 (by decide), m454, if_neg hj], by rw [a655, if_neg hj, m455]⟩⟩, MI6⟩, ?_⟩
        · rw [u1, te_ok]
          dsimp only
          rw [eC]
          rfl
        · rw [s642, e6 52 (by omega) (by decide), x10, e52]; omega
        · rw [e46] at x8
          exact NDS_e nd6 ns _ x8
        · refine CA_sam (fun q hq => ?_) fr24.1 _ _ _ x13
          have s := fr24.2.1 q hq.2.1 (fun e => by have := hR.2.1.2.1; have := hq.1; omega)
          exact ⟨⟨by have := hq.1; omega, by have := fr24.1.1; have := hq.2.1; omega, by rw [s.1, s.2.2.1]; exact hq.2.2⟩, s⟩
        · rw [o5 5 (by decide)] at g6; rw [e646]; omega
        · rw [o5 5 (by decide)] at g6
          omega
      · right
        have hle := TH_K u2
        obtain ⟨q1, q2, q3, q4, q5, q6, q7, q8⟩ := u2
        rw [u1, xt_tel q1]
        exact ⟨e, t3, 1 + cc, 8 + nn, K, P, m6, rfl, ⟨q1, q2, q3, q4, fr7_tr fr02 q5, by omega, by omega, by omega⟩, rfl, MFI_tr (MI_E MI5) (MFI_B u3)⟩
    · right
      rw [e31] at x2
      have hle := TH_K x2
      obtain ⟨q1, q2, q3, q4, q5, q6, q7, q8⟩ := x2
      rw [x1, xt_tel q1, x3, Option.bind_some]
      have h456 : m4.1 56 = m3.1 56 := by
        rcases x4 with q | q
        · exact q.2.2.1 56 (by decide)
        · exact q.2.2.2.2.1 56 (by decide)
      obtain ⟨m', e1, e2⟩ := rdC_f (m := m) (m4 := m4) (K := K) (P := P) q2.2 (MFI_tr (MI_E MI3) (MFI_B x4)) (by rw [h456, e31, o56]; omega)
      rw [e1]
      exact ⟨e, t2, cc, nn, K, P, m', rfl, ⟨q1, q2, q3, q4, fr7_tr f3 q5, by omega, by omega, by omega⟩, rfl, e2⟩
    · right
      rw [e31] at x5 x6 x7
      rw [x1, te_okc]
      dsimp only
      obtain ⟨d1, d2, d3, d4, d5, d6⟩ := x2
      rw [ztg_e d1.1.1.1, Option.bind_some, x3, Option.bind_some]
      obtain ⟨m', e1, e2⟩ := rdC_f (m := m) (m4 := m4) (K := 2) (P := md.1 5) (by decide) (MFI_tr (MI_E MI3) (MFI_B (Or.inl x4))) (by rw [x4.2.2.1 56 (by decide), e31, o56]; omega)
      rw [e1]
      rcases c_want d1 (j := 6) (by decide) (l := 59) rfl with ⟨q9, e', t3, q1, q2⟩ | ⟨q9, q1, q2⟩
      · obtain ⟨r1, r2, r3, r4, r5, r6, r7, r8⟩ := q2
        rw [q1, xt_tel r1]
        exact ⟨e', t3, 1 + cc, 8 + nn, 2, md.1 5, m', rfl, ⟨r1, r2, r3, r4, fr7_tr f3 (fr7_tr d3 r5), by omega, by omega, by omega⟩, rfl, e2⟩
      · exfalso
        have := d2.2
        have : md.1 7 = 6 := q9.2
        omega
  · right
    obtain ⟨q1, q2, q3, q4, q5, q6, q7, q8⟩ := p2
    rw [p1, xt_tel q1]
    obtain ⟨mc, hmc⟩ : ∃ mc, mc = ms (ms m3 49 0) 50 0 := ⟨_, rfl⟩
    have oc : ∀ j, j ≠ 49 → j ≠ 50 → mc.1 j = m2.1 j := fun j h1 h2 => by rw [hmc, ms_1, if_neg h2, ms_1, if_neg h1, e31]
    obtain ⟨m4, z1, z2⟩ := bad1 (m := mc) (by rw [oc 8 (by decide) (by decide)]; exact p4) (by rw [oc 4 (by decide) (by decide)]; exact p3)
    rw [oc 5 (by decide) (by decide)] at z2
    have ec : m5_cond m3 = some m4 := by
      obtain ⟨k, hk⟩ : ∃ k, NN = k + 2 := ⟨NN - 2, by have := NN_gt (show 2 < 100000 by decide); omega⟩
      rw [m_cond_TC, ← hmc, hk]; exact z1 k
    have Fc : mfr CS7 CA7 m3 mc := by rw [hmc]; exact mfr_ms (mfr_ms mfr_rf (by decide)) (by decide)
    rw [ec, Option.bind_some]
    obtain ⟨m', e1, e2⟩ := rdC_f (m := m) (m4 := m4) (K := 1) (P := m2.1 5) (by decide) ⟨Or.inl ⟨z2.1, z2.2.1⟩, MI_tr (MI_E MI3) (MI_7 (mfr_tr Fc z2.2.2))⟩ (by rw [z2.2.2.1 56 (by decide), oc 56 (by decide) (by decide), o56]; omega)
    rw [e1]
    exact ⟨e, t1, 1, 8, 1, m2.1 5, m', rfl, ⟨q1, q2, q3, q4, q5, q6, q7, q8⟩, rfl, e2⟩

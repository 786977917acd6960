/-! THE READER: a test in a condition -/
theorem f13_e {G : CG} {u : Sg} {x : Nat} {v1 v2 b : Int} (h : zT u x = 14) (hG : G0 G ≤ x) (hb : b = 0 ∨ b = 1) : f13_init G (some x) v1 v2 b u = some (zsI (zsI (zsI u x 520 v1) x 521 v2) x 522 b) := by
  unfold f13_init f10_init
  rw [Option.bind_some, Option.bind_some, Option.bind_some, pfI_e h hG, Option.bind_some, pfI_e (show zT (zsI u x 520 v1) x = 14 from h) hG, Option.bind_some, if_pos (by rcases hb with rfl | rfl <;> decide), pfI_e (show zT (zsI (zsI u x 520 v1) x 521 v2) x = 14 from h) hG, Option.bind_some]
theorem f12_e {G : CG} {u : Sg} {x : Nat} {v1 : Int} (h : zT u x = 13) (hG : G0 G ≤ x) : f12_init G (some x) v1 u = some (zsI u x 480 v1) := by
  unfold f12_init f10_init
  rw [Option.bind_some, Option.bind_some, Option.bind_some, pfI_e h hG, Option.bind_some]
theorem f14_e {G : CG} {u : Sg} {x : Nat} {v1 v3 : Int} {v2 : Option Nat} (h : zT u x = 15) (hG : G0 G ≤ x) : f14_init G (some x) v1 v2 v3 u = some (zsI (zsR (zsI u x 560 v1) x 561 v2) x 562 v3) := by
  unfold f14_init f10_init
  rw [Option.bind_some, Option.bind_some, Option.bind_some, pfI_e h hG, Option.bind_some, pfR_e (show zT (zsI u x 560 v1) x = 15 from h) hG, Option.bind_some, pfI_e (show zT (zsR (zsI u x 560 v1) x 561 v2) x = 15 from h) hG, Option.bind_some]
theorem f11_e {G : CG} {u : Sg} {x : Nat} {v1 : Option Nat} (h : zT u x = 12) (hG : G0 G ≤ x) : f11_init G (some x) v1 u = some (zsR u x 440 v1) := by
  unfold f11_init f10_init
  rw [Option.bind_some, Option.bind_some, Option.bind_some, pfR_e h hG, Option.bind_some]
/-- the token from (t4, m4), all else from (t, m) -/
theorem R7_x {G : CG} {L : Ly} {t t4 t5 : Sg} {m m4 : Mu} {r : Nat} (h : R7 G L t m r) (k : fr7 r t t5) (km : mfr CS7 CA7 m m4) (h4 : R7 G L t4 m4 r) (hI : ∀ j, j ≠ 287 → zI t5 r j = zI t4 r j) : R7 G L t5 m4 r := by
  obtain ⟨h1, h2, -⟩ := h
  obtain ⟨-, -, g3, g4, g5, g6⟩ := h4
  have hN := k.1.1
  obtain ⟨x2, x0, x1⟩ := mfr_TX km
  refine ⟨TX_k h1 ⟨h2.2.2.1, h2.2.2.2.1, h2.2.2.2.2.1, h2.2.2.2.2.2⟩ k x2 x0 x1, ⟨by omega, by omega, by omega, by omega, by omega, h2.2.2.2.2.2⟩, ?_, ?_, ?_, g6⟩
  · unfold TKR
    rw [hI 280 (by decide), hI 281 (by decide), hI 282 (by decide), hI 283 (by decide), hI 284 (by decide), hI 285 (by decide)]
    exact g3
  · rw [hI 288 (by decide)]; exact g4
  · rw [hI 289 (by decide)]; exact g5
/-- next on both sides, the twin's state with other nodes and pile -/
theorem next7m {G : CG} {L : Ly} {t : Sg} {m : Mu} {r : Nat} (h : R7 G L t m r) (hk : m.1 4 ≠ 0) (hc : m.1 52 ≤ m.1 5 + 1) : ∃ m', m5_next m = some m' ∧ m'.2 = m.2 ∧ (∀ k, (k < 3 ∨ 7 < k) → m'.1 k = m.1 k) ∧ mfr [3, 4, 5, 6, 7, 46, 52] [42, 43, 44, 45] m m' ∧ m.1 5 < m'.1 5 ∧ m'.1 5 ≤ 512 ∧ ((∃ t', f7_next G (some r) t = some ((.inr (), t'), 0, 0) ∧ R7 G L t' m' r ∧ m'.1 52 ≤ m'.1 5 ∧ fr7 r t t' ∧ zI t' r 287 = zI t r 287) ∨ (∃ e t', f7_next G (some r) t = some ((.inl e, t'), 1, 8) ∧ TH7 r t (m.1 5) e t' 1 8 1 (m'.1 5) ∧ m'.1 4 = 5 ∧ m'.1 8 = 0)) := by
  obtain ⟨m', e1, e2, e3, e4, e5, e6⟩ := next7 h hk hc
  have hb := h.2.2.2.1.2.2
  refine ⟨m', e1, e2, e3, ⟨fun k hk => e3 k ?_, fun k _ => by rw [e2]⟩, e4, by omega, ?_⟩
  · simp only [List.mem_cons, List.not_mem_nil, or_false] at hk
    omega
  · rcases e6 with ⟨t', p1, p2, p3, p4, p5, p6⟩ | ⟨e, t', p1, p2, p3, p4⟩
    · exact Or.inl ⟨t', p1, p2, p3, p4, p6 287 (by omega)⟩
    · exact Or.inr ⟨e, t', p1, p2, p3, by rw [e3 8 (by omega)]; exact h.2.2.2.2.2⟩
theorem nd_of {m m' : Mu} (h : ∀ k, k = 42 ∨ k = 43 ∨ k = 44 ∨ k = 45 → m'.2 k = m.2 k) (i : Nat) : ndN m' i = ndN m i := by
  unfold ndN
  rw [h 42 (by omega), h 43 (by omega), h 44 (by omega), h 45 (by omega)]
/-- the end of a test: value, node, next -/
theorem m_280 {m : Mu} {v : Int} (h46 : 0 ≤ m.1 46 ∧ m.1 46 ≤ 4090) (hv : 0 ≤ v ∧ v ≤ 999999999) : m5_part_b280 v m = m5_next (ms (ma (ma m 45 (m.1 46).toNat v) 42 (m.1 46).toNat 0) 46 (m.1 46 + 1)) := by
  unfold m5_part_b280
  have i1 : ((m.1 46).toNat : Int) = m.1 46 := by omega
  rw [w32_id (x := v) (by omega) (by omega), if_pos hv.1, mast_e (m.1 46).toNat i1.symm (by omega) (by omega), Option.bind_some, m_emit (m := ma m 45 (m.1 46).toNat v) (by decide) h46.1 (by show m.1 46 < 4100; omega), Option.bind_some]
  show (m5_next (ms (ma (ma m 45 (m.1 46).toNat v) 42 (m.1 46).toNat 0) 46 (m.1 46 + 1))).bind some = _
  cases m5_next (ms (ma (ma m 45 (m.1 46).toNat v) 42 (m.1 46).toNat 0) 46 (m.1 46 + 1)) <;> rfl
/-- what a test comes to -/
def TST (G : CG) (L : Ly) (r : Nat) (W : Wv) (d : Int) (t : Sg) (m : Mu) (x : Option (((Nat ⊕ Option Nat) × Sg) × Nat × Nat)) (y : Option Mu) : Prop := (∃ c t' cc nn m1, x = some ((.inr (some c), t'), cc, nn) ∧ y = some m1 ∧ NO1 G L r W d t m c t' m1 ∧ cc ≤ 1 ∧ nn ≤ 3) ∨ (∃ e t' cc nn K P m1, x = some ((.inl e, t'), cc, nn) ∧ TH7 r t (m.1 5) e t' cc nn K P ∧ y = some m1 ∧ (MF m m1 K P ∨ (K = 1 ∧ BDT m m1 P)))
theorem test7 {G : CG} {L : Ly} {t : Sg} {m : Mu} {r a w : Nat} {W : Wv} (h : CX G L t m r a w W) {f k b : Nat} (hf : f < nF W) (hFZ : FZ (ZO t r) t W b f) (hk : k < 6) (h4 : m.1 4 = 3) (h7 : m.1 7 = (k : Int)) (h46 : 0 ≤ m.1 46 ∧ m.1 46 ≤ 4000) (hkd : W 14 f = 2 ∨ (W 14 f = 1 ∧ (k = 0 ∨ k = 5))) : TST G L r W 0 t m (f7_named_b149 G (some r) f (some b) (GS G k) t) (m5_part_b200 f (W 14 f) m) := by
  obtain ⟨hR, hc, ⟨hLK, h286⟩, ⟨hs, hw, h51⟩, hSt⟩ := id h
  have hF8 : nF W ≤ 8 := hLK.2.1.2.1
  obtain ⟨i, hi⟩ : ∃ i, i = (m.1 46).toNat := ⟨_, rfl⟩
  have i1 : m.1 46 = (i : Int) := by omega
  obtain ⟨mA, hmA⟩ : ∃ mA, mA = ma (ma m 43 i f) 44 i k := ⟨_, rfl⟩
  have A1 : mA.1 = m.1 := by rw [hmA]; rfl
  have A2 : mfr [46, 49, 50] CA7 m mA := by rw [hmA]; exact mfr_ma (mfr_ma mfr_rf (by decide)) (by decide)
  have RA' : R7 G L t mA r := R7_m hR A2
  obtain ⟨m3, n1, n2, n3, n4, n5, n6, n7⟩ := next7m RA' (by rw [A1]; omega) (by rw [A1]; omega)
  have AF : mfr [3, 4, 5, 6, 7, 46, 52] [42, 43, 44, 45] m mA := by rw [hmA]; exact mfr_ma (mfr_ma mfr_rf (by decide)) (by decide)
  have F3 : mfr [3, 4, 5, 6, 7, 46, 52] [42, 43, 44, 45] m m3 := mfr_tr AF n4
  have F3' : mfr CS7 CA7 m m3 := mfr_up F3 (by decide) (by decide)
  rw [A1] at n5
  have e3 : ∀ j, (j < 3 ∨ 7 < j) → m3.1 j = m.1 j := fun j hj => by rw [n3 j hj, A1]
  have hb200 : m5_part_b200 f (W 14 f) m = (if w32 (W 14 f) = 1 then m5_part_b243 f (W 14 f) (m3.1 4) 1 m3 else m5_part_b243 f (W 14 f) (m3.1 4) 2 m3) := by
    unfold m5_part_b200
    rw [w8_id (x := (f : Int)) (by omega) (by omega), w8_id (x := (f : Int)) (by omega) (by omega), mast_e i i1 (by omega) (by omega), Option.bind_some, ma_1, h7, w8_id (x := (k : Int)) (by omega) (by omega), w8_id (x := (k : Int)) (by omega) (by omega), mast_e i i1 (by omega) (by omega), Option.bind_some, ← hmA, n1, Option.bind_some]
  rw [hb200]
  unfold f7_named_b149
  rw [ztg_e hR.1.1.1, Option.bind_some]
  -- the twin cannot go on
  have cannot3 : ∀ (s1 : Int), m3.1 8 = 0 → w32 (m3.1 4) = m3.1 4 → m3.1 4 ≠ s1 → w32 s1 = s1 → ∃ m', m5_part_b243 f (W 14 f) (m3.1 4) s1 m3 = some m' ∧ MF m m' (if m3.1 4 = 5 then 1 else 2) (m3.1 5) := fun s1 h8 hw4 hne hs1 => by
    obtain ⟨m', e, hm⟩ := m_cannot h8 hw4
    refine ⟨m', ?_, MF_tr F3' hm⟩
    unfold m5_part_b243
    rw [hw4, hs1, if_neg hne, e]; rfl
  rcases n7 with ⟨t3, p1, p2, p3, p4, p5⟩ | ⟨e, t3, p1, p2, p3, p4⟩
  · -- next went well
    have C3 : CX G L t3 m3 r a w W := CX_k h p2 p3 p4 F3'
    obtain ⟨k1, k2⟩ := tk_w p2.2.2.1
    have hFZ3 : FZ (ZO t3 r) t3 W b f := FZ_k (ZO_k p4) hFZ
    obtain ⟨z1, z2, z3, z4, z5, z6, z7, z8, c, c1, c2, c3, c4, c5⟩ := hFZ3
    have b149 : zI t3 b 361 = W 14 f := z4
    have hrN : r < zN t3 := p2.2.1.2.1
    have hGN : G0 G ≤ zN t3 := p2.2.1.1
    rw [p1, te_ok]
    dsimp only
    rw [gfI_v z2 b149, Option.bind_some]
    obtain ⟨mC, hmC⟩ : ∃ mC : Int → Mu, mC = fun v => ms (ma (ma m3 45 i v) 42 i 0) 46 (m3.1 46 + 1) := ⟨_, rfl⟩
    have m346 : m3.1 46 = m.1 46 := e3 46 (by omega)
    have hi3 : i = (m3.1 46).toNat := by rw [m346]; exact hi
    have C1 : ∀ v j, j ≠ 46 → (mC v).1 j = m3.1 j := fun v j hj => by rw [hmC]; show (ms _ 46 _).1 j = _; rw [ms_1, if_neg hj]; rfl
    have C46 : ∀ v, (mC v).1 46 = m.1 46 + 1 := fun v => by rw [hmC]; show (ms _ 46 _).1 46 = _; rw [ms_1, if_pos rfl, m346]
    have C2 : ∀ v, mfr [46, 49, 50] CA7 m3 (mC v) := fun v => by rw [hmC]; exact mfr_ms (mfr_ma (mfr_ma mfr_rf (by decide)) (by decide)) (by decide)
    have CF : ∀ v, mfr [3, 4, 5, 6, 7, 46, 52] [42, 43, 44, 45] m3 (mC v) := fun v => by rw [hmC]; exact mfr_ms (mfr_ma (mfr_ma mfr_rf (by decide)) (by decide)) (by decide)
    have ndC : ∀ v j, ndN (mC v) j = if j = i then ((0, (f : Int), (k : Int), v) : Nd) else ndN m j := fun v j => by
      have e42 : (mC v).2 42 j = if j = i then 0 else m.2 42 j := by rw [hmC]; show (ms _ 46 _).2 42 j = _; rw [ms_2, ma_s, ma_o (by decide), n2, hmA, ma_o (by decide), ma_o (by decide)]
      have e43 : (mC v).2 43 j = if j = i then (f : Int) else m.2 43 j := by rw [hmC]; show (ms _ 46 _).2 43 j = _; rw [ms_2, ma_o (by decide), ma_o (by decide), n2, hmA, ma_o (by decide), ma_s]
      have e44 : (mC v).2 44 j = if j = i then (k : Int) else m.2 44 j := by rw [hmC]; show (ms _ 46 _).2 44 j = _; rw [ms_2, ma_o (by decide), ma_o (by decide), n2, hmA, ma_s, ma_o (by decide)]
      have e45 : (mC v).2 45 j = if j = i then v else m.2 45 j := by rw [hmC]; show (ms _ 46 _).2 45 j = _; rw [ms_2, ma_o (by decide), ma_s, n2, hmA, ma_o (by decide), ma_o (by decide)]
      unfold ndN
      rw [e42, e43, e44, e45]
      split <;> rfl
    -- the end: both have read the value
    have fin : ∀ (m4 : Mu) (v : Int) (c : Nat) (t5 : Sg), m4.2 = (mC v).2 → (∀ j, (j < 3 ∨ 7 < j) → m4.1 j = (mC v).1 j) → m3.1 5 < m4.1 5 → m4.1 52 ≤ m4.1 5 → zI t5 r 287 = zI t3 r 287 → R7 G L t5 m4 r → fr7 r t t5 → CA (FN (zN t) W t5) G t5 1 c [((0, (f : Int), (k : Int), v) : Nd)] → 0 ≤ v ∧ v ≤ 999999999 → NO1 G L r W 0 t m c t5 m4 := by
      intro m4 v c t5 a1 a2 a3 a5 a7 a10 a11 a12 a13
      have nd4 : ∀ j, ndN m4 j = if j = i then ((0, (f : Int), (k : Int), v) : Nd) else ndN m j := fun j => by rw [nd_of (m := mC v) (fun k _ => by rw [a1]) j]; exact ndC v j
      have nd4i : ndN m4 (m.1 46).toNat = ((0, (f : Int), (k : Int), v) : Nd) := by rw [nd4, if_pos hi.symm]
      refine ⟨a10, a11, by rw [a7, p5], mfr_tr F3 (mfr_tr (CF v) ⟨fun j hj => a2 j (by simp only [List.mem_cons, List.not_mem_nil, or_false] at hj; omega), fun j _ => by rw [a1]⟩), by rw [a2 46 (by omega), C46], fun j hj => by rw [nd4, if_neg (by omega)], by rw [nd4i]; exact a12, ?_, ?_, a5, by omega⟩
      · rw [nd4i]
        exact ⟨by show (0 : Int) ≤ 0; decide, by show (0 : Int) ≤ 4; decide, fun _ => ⟨by show (0 : Int) ≤ (f : Int); omega, by show (f : Int) < (nF W : Nat); omega, by show (0 : Int) ≤ (k : Int); omega, by show (k : Int) ≤ 5; omega, a13⟩, fun q => absurd q (by show ¬ (0 : Int) = 1; decide)⟩
      · rw [a2 52 (by omega), C1 v 52 (by decide), e3 52 (by omega)]; omega
    -- the end: a bad token behind the value
    have bad : ∀ (m4 : Mu) (v : Int), m4.2 = (mC v).2 → (∀ j, (j < 3 ∨ 7 < j) → m4.1 j = (mC v).1 j) → m4.1 4 = 5 → m4.1 8 = 0 → BDT m m4 (m4.1 5) := fun m4 v a1 a2 a3 a4 => by
      refine ⟨a4, a3, rfl, mfr_tr F3 (mfr_tr (CF v) ⟨fun j hj => a2 j (by simp only [List.mem_cons, List.not_mem_nil, or_false] at hj; omega), fun j _ => by rw [a1]⟩), ?_, ?_⟩
      · rw [a2 46 (by omega), C46]; omega
      · rw [a2 46 (by omega), C46]; omega
    have CFs : ∀ v (m4 : Mu), m4.2 = (mC v).2 → (∀ j, (j < 3 ∨ 7 < j) → m4.1 j = (mC v).1 j) → mfr CS7 CA7 m3 m4 := fun v m4 a1 a2 => mfr_up (mfr_tr (CF v) ⟨fun j hj => a2 j (by simp only [List.mem_cons, List.not_mem_nil, or_false] at hj; omega), fun j _ => by rw [a1]⟩) (by decide) (by decide)
    rcases hkd with kd | ⟨kd, hk05⟩
    · -- a number
      rw [kd, show w32 2 = 2 from rfl, if_pos rfl, if_neg (by decide)]
      obtain ⟨t3', ht3'⟩ : ∃ t3', t3' = znew t3 15 0 := ⟨_, rfl⟩
      have N3' : zN t3' = zN t3 + 1 := by rw [ht3']; rfl
      have fr3' : fr7 r t3 t3' := by rw [ht3']; exact fr7_znew fr7_rf hrN
      have I3' : ∀ j, zI t3' r j = zI t3 r j := fun j => by rw [ht3', znew_I, if_neg (by omega)]
      have T3' : zT t3' (zN t3) = 15 := by rw [ht3', znew_T, if_pos rfl]
      have R3' : R7 G L t3' m3 r := R7_k p2 fr3' (fun j _ => I3' j)
      have hnew : ∀ {β : Type} (K : Nat × Sg → Option (β × Nat × Nat)), bdU (zNew t3 15 3) K = (K (zN t3, t3')).map fun r => (r.1, r.2.1 + 1, r.2.2 + 3) := fun K => by rw [ht3']; rfl
      rw [hnew]
      dsimp only
      rw [ztg_e R3'.1.1.1, Option.bind_some]
      rcases c_number R3' (lo := 0) (hi := 999999999) (by decide) (by decide) with ⟨q4, e, t', q1, q2⟩ | ⟨q4, q5, -⟩ | ⟨q4, q5, q6, q7, q8⟩
      · right
        obtain ⟨m', em, hm⟩ := cannot3 2 p2.2.2.2.2.2 k1.2.2.1 q4 rfl
        rw [if_neg (show ¬ m3.1 4 = 5 by omega)] at hm
        rw [q1, xt_tel q2.1]
        refine ⟨e, t', 1 + 1, 8 + 3, 2, m3.1 5, m', rfl, ?_, by rw [kd] at em; exact em, Or.inl hm⟩
        exact TH7_tr (fr7_tr p4 fr3') (by omega) q2 (by omega) (by omega)
      · exfalso
        have := k2 (by omega)
        have hle : m3.1 7 ≤ 999999999 := by
          rcases p2.2.2.1.2.2.2.2.2 with z | ⟨-, z | z | z | z⟩
          · exact absurd z.2.1 (by omega)
          · exact absurd z.2.1 (by omega)
          · exact z.2.2.2.2
          · exact absurd z.2.1 (by omega)
          · exact absurd z.2.1 (by omega)
        omega
      · have e243 : m5_part_b243 f 2 (m3.1 4) 2 m3 = m5_next (mC (m3.1 7)) := by
          unfold m5_part_b243
          rw [k1.2.2.1, if_pos (by rw [q4]; decide), if_neg (by decide), m_280 (by omega) ⟨q5, q6⟩, hmC, hi3]
        have RC' : R7 G L t3' (mC (m3.1 7)) r := R7_m R3' (C2 _)
        obtain ⟨m4, v1, v2, v3, v4, v5, v6, v7⟩ := next7m RC' (by rw [C1 _ 4 (by decide)]; omega) (by rw [C1 _ 52 (by decide), C1 _ 5 (by decide)]; omega)
        rw [C1 _ 5 (by decide)] at v5 v7
        rcases v7 with ⟨t4, u1, u2, u3, u4, u5⟩ | ⟨e, t4, u1, u2, u3, u4⟩
        · left
          have T4 : zT t4 (zN t3) = 15 := by rw [(u4.2.1 (zN t3) (by omega) (by omega)).1]; exact T3'
          obtain ⟨t5, ht5⟩ : ∃ t5, t5 = zsI (zsR (zsI t4 (zN t3) 560 f) (zN t3) 561 (GS G k)) (zN t3) 562 (m3.1 7) := ⟨_, rfl⟩
          have fr5 : fr7 r t3 t5 := by
            rw [ht5]
            exact fr7_zsI (fr7_zsR (fr7_zsI (fr7_tr fr3' u4) (Nat.le_refl _) (by omega)) (Nat.le_refl _) (by omega)) (Nat.le_refl _) (by omega)
          have N5 : zN t5 = zN t4 := by rw [ht5]; rfl
          have I5 : ∀ j, zI t5 r j = zI t4 r j := fun j => by rw [ht5, zsI_I, if_neg (fun q => by have := q.1; omega), zsR_I, zsI_I, if_neg (fun q => by have := q.1; omega)]
          have R5 : R7 G L t5 m4 r := R7_x p2 fr5 (CFs _ m4 v2 v3) u2 (fun j _ => I5 j)
          have sR : ∀ j, zI t5 (zN t3) j = if j = 562 then m3.1 7 else if j = 560 then (f : Int) else zI t4 (zN t3) j := fun j => by
            rw [ht5, zsI_I, zsR_I, zsI_I]
            by_cases q : j = 562
            · rw [if_pos ⟨rfl, q⟩, if_pos q]
            · rw [if_neg (fun z => q z.2), if_neg q]
              by_cases q2 : j = 560
              · rw [if_pos ⟨rfl, q2⟩, if_pos q2]
              · rw [if_neg (fun z => q2 z.2), if_neg q2]
          have T5 : zT t5 (zN t3) = 15 := by rw [ht5]; exact T4
          refine ⟨zN t3, t5, 0 + 0 + 1, 0 + 0 + 3, m4, ?_, by rw [← v1]; exact e243, ?_, by omega, by omega⟩
          · rw [q7 t4 u1, te_ok]
            dsimp only
            rw [f14_e T4 hGN, Option.bind_some, ← ht5]
            rfl
          · refine fin m4 (m3.1 7) (zN t3) t5 v2 v3 v5 u3 (by rw [I5, u5, I3']) R5 (fr7_tr p4 fr5) ⟨⟨p4.1.1, by rw [N5]; have := u4.1.1; omega, fun q => absurd (T5.symm.trans q) (by decide)⟩, Or.inr (Or.inr (Or.inr (Or.inl ⟨T5, k, hk, ?_, ?_⟩)))⟩ ⟨q5, q6⟩
            · rw [ht5]; show zR (zsR (zsI t4 (zN t3) 560 f) (zN t3) 561 (GS G k)) (zN t3) 561 = _
              rw [zsR_R, if_pos ⟨rfl, rfl⟩]
            · rw [sR, sR, if_neg (by decide), if_pos rfl, if_pos rfl]
        · right
          refine ⟨e, t4, 1 + 1, 8 + 3, 1, m4.1 5, m4, ?_, ?_, by rw [← v1]; exact e243, Or.inr ⟨rfl, bad m4 _ v2 v3 u3 u4⟩⟩
          · rw [q8 e t4 u2.1 u1, xt_tel u2.1]; rfl
          · exact TH7_tr (fr7_tr p4 fr3') (by omega) u2 (by omega) (by omega)
    · -- a choice
      rw [kd, show w32 1 = 1 from rfl, if_neg (by decide), if_pos rfl, ztg_e p2.1.1.1, Option.bind_some]
      rcases want_kind p2 (K := 1) (by decide) with ⟨q4, eq⟩ | ⟨q4, e, t', eq, hth⟩
      · have hNM : NM (zI t3 r 283) (m3.1 6) := by
          rcases p2.2.2.1.2.2.2.2.2 with z | ⟨-, z | z | z | z⟩
          · exact absurd z.2.1 (by omega)
          · exact z.2.2
          · exact absurd z.2.1 (by omega)
          · exact absurd z.2.1 (by omega)
          · exact absurd z.2.1 (by omega)
        rw [eq, te_ok]
        dsimp only
        rw [gfI_e p2.1.1.1, Option.bind_some, ztg_e z2, Option.bind_some]
        have s15 : m3.2 15 (8 * w + f) = W 15 f := by rw [← C3.2.2.2.1.1]; show _ = if f < 8 then m3.2 15 (8 * w + f) else 0; rw [if_pos (by omega)]
        obtain ⟨n, hn⟩ : ∃ n : Nat, W 15 f = (n : Int) := ⟨(W 15 f).toNat, by omega⟩
        have s16 : ∀ k, k < n → m3.2 16 (6 * (8 * w + f) + k) = W 16 (6 * f + k) := fun k hk => by
          rw [← C3.2.2.2.1.1]
          show _ = if 6 * f + k < 48 then m3.2 16 (48 * w + (6 * f + k)) else 0
          rw [if_pos (by omega), show 6 * (8 * w + f) + k = 48 * w + (6 * f + k) by omega]
        obtain ⟨v, x1, x2, x3⟩ := lk_choice (G := G) (t := t3) (m := m3) (b := b) (c := c) (i := 8 * w + f) (n := n) z2 (by rw [z5, hn]) (by omega) c1 c3 c4 (by omega) (by rw [s15, hn]) (fun k hk => by rw [s16 k hk]; exact c5 k (by omega)) hNM
        rw [x1, Option.bind_some]
        have e243 : m5_part_b243 f 1 (m3.1 4) 1 m3 = m5_part_b280 v m3 := by
          unfold m5_part_b243
          rw [k1.2.2.1, if_pos (by rw [q4]; decide), if_pos (by decide), show (8 * (m3.1 51) + (f : Int)) = ((8 * w + f : Nat) : Int) by rw [C3.2.2.2.1.2.2]; omega, x2, Option.bind_some]
        rw [e243]
        rcases x3 with rfl | ⟨g, hg, rfl⟩
        · right
          rw [if_neg (by decide)]
          obtain ⟨t', e, hth⟩ := c_throw (α := Option Nat) p2 4
          obtain ⟨m', em, hm, -⟩ := m_wrong p2.2.2.2.2.2 4
          refine ⟨_, t', 1, 8, 4, m3.1 5, m', e, TH7_tr p4 (by omega) hth (by omega) (by omega), ?_, Or.inl (MF_tr F3' hm)⟩
          unfold m5_part_b280
          rw [if_neg (by decide), em]; rfl
        · rw [w32_n (n := g) (by omega), if_pos (by omega), ztg_e p2.1.1.1, Option.bind_some, m_280 (by omega) (by omega)]
          have eC : ms (ma (ma m3 45 (m3.1 46).toNat g) 42 (m3.1 46).toNat 0) 46 (m3.1 46 + 1) = mC g := by rw [hmC, hi3]
          rw [eC]
          have RC' : R7 G L t3 (mC g) r := R7_m p2 (C2 _)
          obtain ⟨m4, v1, v2, v3, v4, v5, v6, v7⟩ := next7m RC' (by rw [C1 _ 4 (by decide)]; omega) (by rw [C1 _ 52 (by decide), C1 _ 5 (by decide)]; omega)
          rw [C1 _ 5 (by decide)] at v5 v7
          rcases v7 with ⟨t4, u1, u2, u3, u4, u5⟩ | ⟨e, t4, u1, u2, u3, u4⟩
          · left
            obtain ⟨s, hs01, hsk⟩ : ∃ s : Int, (s = 0 ∨ s = 1) ∧ (k : Int) = if s = 0 then 0 else 5 := by
              rcases hk05 with q | q
              · exact ⟨0, Or.inl rfl, by rw [q]; rfl⟩
              · exact ⟨1, Or.inr rfl, by rw [q]; rfl⟩
            have hrN4 : r < zN t4 := u2.2.1.2.1
            have hGN4 : G0 G ≤ zN t4 := u2.2.1.1
            obtain ⟨t5, ht5⟩ : ∃ t5, t5 = zsI (zsI (zsI (znew t4 14 0) (zN t4) 520 f) (zN t4) 521 g) (zN t4) 522 s := ⟨_, rfl⟩
            have fr5 : fr7 r t4 t5 := by
              rw [ht5]
              exact fr7_zsI (fr7_zsI (fr7_zsI (fr7_znew fr7_rf hrN4) (Nat.le_refl _) (by omega)) (Nat.le_refl _) (by omega)) (Nat.le_refl _) (by omega)
            have N5 : zN t5 = zN t4 + 1 := by rw [ht5]; rfl
            have I5 : ∀ j, zI t5 r j = zI t4 r j := fun j => by rw [ht5, zsI_I, if_neg (fun q => by have := q.1; omega), zsI_I, if_neg (fun q => by have := q.1; omega), zsI_I, if_neg (fun q => by have := q.1; omega), znew_I, if_neg (by omega)]
            have T5 : zT t5 (zN t4) = 14 := by rw [ht5]; show zT (znew t4 14 0) (zN t4) = 14; rw [znew_T, if_pos rfl]
            have s520 : zI t5 (zN t4) 520 = f := by rw [ht5, zsI_I, if_neg (fun q => absurd q.2 (by decide)), zsI_I, if_neg (fun q => absurd q.2 (by decide)), zsI_I, if_pos ⟨rfl, rfl⟩]
            have s521 : zI t5 (zN t4) 521 = g := by rw [ht5, zsI_I, if_neg (fun q => absurd q.2 (by decide)), zsI_I, if_pos ⟨rfl, rfl⟩]
            have s522 : zI t5 (zN t4) 522 = s := by rw [ht5, zsI_I, if_pos ⟨rfl, rfl⟩]
            refine ⟨zN t4, t5, 0 + 1, 0 + 3, m4, ?_, v1, ?_, by omega, by omega⟩
            · rw [u1, te_ok]
              dsimp only
              have e236 : f7_named_b236 G (some (zN t4)) (some (zN t4)) f g s (znew t4 14 0) = some ((.inr (some (zN t4)), t5), 0, 0) := by
                unfold f7_named_b236
                rw [Option.bind_some, f13_e (by rw [znew_T, if_pos rfl]) hGN4 hs01, Option.bind_some, ← ht5]
              show ((if GS G k = GS G 5 then f7_named_b236 G (some (zN t4)) (some (zN t4)) f g 1 (znew t4 14 0) else f7_named_b236 G (some (zN t4)) (some (zN t4)) f g 0 (znew t4 14 0))).map _ = _
              rcases hs01 with rfl | rfl
              · rw [if_pos rfl] at hsk
                rw [if_neg (fun q => by have := (GS_i hSt hk (by decide)).mp q; omega), e236]; rfl
              · rw [if_neg (by decide)] at hsk
                rw [if_pos ((GS_i hSt hk (by decide)).mpr (by omega)), e236]; rfl
            · have hl4 := u4.1.1
              have hl3 := p4.1.1
              refine fin m4 g (zN t4) t5 v2 v3 v5 u3 (by rw [I5, u5]) (R7_k u2 fr5 (fun j _ => I5 j)) (fr7_tr p4 (fr7_tr u4 fr5)) ⟨⟨by omega, by omega, fun _ => by rw [s520, Int.toNat_natCast, kd]; exact ⟨hf, by decide⟩⟩, Or.inr (Or.inr (Or.inl ⟨T5, ?_, ?_⟩))⟩ (by omega)
              · rw [s522]; exact hs01
              · rw [s520, s521, s522, hsk]
          · right
            refine ⟨e, t4, 1, 8, 1, m4.1 5, m4, ?_, TH7_tr p4 (by omega) u2 (by omega) (by omega), v1, Or.inr ⟨rfl, bad m4 _ v2 v3 u3 u4⟩⟩
            rw [u1, xt_tel u2.1]
      · right
        obtain ⟨m', em, hm⟩ := cannot3 1 p2.2.2.2.2.2 k1.2.2.1 q4 rfl
        rw [if_neg (show ¬ m3.1 4 = 5 by omega)] at hm
        rw [eq, xt_tel hth.1]
        exact ⟨e, t', 1, 8, 2, m3.1 5, m', rfl, TH7_tr p4 (by omega) hth (by omega) (by omega), by rw [kd] at em; exact em, Or.inl hm⟩
  · right
    rw [A1] at p2
    rw [p1, xt_tel p2.1]
    have hne : ∃ m', (if w32 (W 14 f) = 1 then m5_part_b243 f (W 14 f) (m3.1 4) 1 m3 else m5_part_b243 f (W 14 f) (m3.1 4) 2 m3) = some m' ∧ MF m m' 1 (m3.1 5) := by
      rcases hkd with kd | ⟨kd, -⟩
      · obtain ⟨m', em, hm⟩ := cannot3 2 p4 (by rw [p3]; decide) (by omega) rfl
        rw [if_pos p3] at hm
        exact ⟨m', by rw [if_neg (by rw [kd]; decide)]; exact em, hm⟩
      · obtain ⟨m', em, hm⟩ := cannot3 1 p4 (by rw [p3]; decide) (by omega) rfl
        rw [if_pos p3] at hm
        exact ⟨m', by rw [if_pos (by rw [kd]; decide)]; exact em, hm⟩
    obtain ⟨m', em, hm⟩ := hne
    exact ⟨e, t3, 1, 8, 1, m3.1 5, m', rfl, p2, em, Or.inl hm⟩

/-! ENDORSE: the loop: a clause is struck, or another comes in its stead -/
theorem wN_ok {m : Mu} (h8 : m.1 8 = 0) (h4 : m.1 4 = 2) (h7 : 0 ≤ m.1 7 ∧ m.1 7 ≤ 999999999) : m5_wantsNumber 0 999999999 m = (m5_next m).bind fun u => some (m.1 7, u) := by
  unfold m5_wantsNumber
  rw [h8, if_pos (by decide), h4, if_pos (by decide), w32_id (x := m.1 7) (by omega) (by omega), w32_id (x := 0) (by omega) (by omega), w32_id (x := 999999999) (by omega) (by omega), if_neg (by omega), if_pos (by omega)]
theorem wN_no {m : Mu} (h8 : m.1 8 = 0) (hw : w32 (m.1 4) = m.1 4) (h4 : m.1 4 ≠ 2) (h5 : m.1 4 ≠ 5) : ∃ m', m5_wantsNumber 0 999999999 m = some (0, m') ∧ MF m m' 2 (m.1 5) := by
  obtain ⟨m', em, hm⟩ := m_cannot h8 hw
  rw [if_neg h5] at hm
  refine ⟨m', ?_, hm⟩
  unfold m5_wantsNumber
  rw [h8, if_pos (by decide), hw, if_neg h4, em, Option.bind_some]
/-- the twin behind a number that would not do -/
theorem b166_f {kh : Mu → Option (Mu ⊕ Mu)} {v x : Int} {m m' : Mu} {y : Int} (e : m5_wantsNumber 0 999999999 m = some (y, m')) (h8 : 1 ≤ m'.1 8 ∧ m'.1 8 ≤ 6) : m5_endorse_b166 kh v x m = some (.inl m') := by
  unfold m5_endorse_b166
  rw [e, Option.bind_some]
  dsimp only
  rw [w32_id (x := m'.1 8) (by omega) (by omega), if_neg (by omega)]
theorem b166_t {kh : Mu → Option (Mu ⊕ Mu)} {v x : Int} {m m' : Mu} {y : Int} (e : m5_wantsNumber 0 999999999 m = some (y, m')) (h8 : m'.1 8 = 0) : m5_endorse_b166 kh v x m = (if (w32 x) = 0 then m5_endorse_b207 (kh) v x (y - 1) (m'.1 56) m' else m5_endorse_b207 (kh) v x (y - 1) (-2) m') := by
  unfold m5_endorse_b166
  rw [e, Option.bind_some]
  dsimp only
  rw [h8, if_pos (by decide)]
theorem b161_f {kh : Mu → Option (Mu ⊕ Mu)} {v x : Int} {m : Mu} (h8 : m.1 8 = 0) : ∃ m', m5_endorse_b161 kh v x m = some (.inl m') ∧ MF m m' 5 (m.1 5) := by
  obtain ⟨m', em, hm, -⟩ := m_wrong h8 5
  refine ⟨m', ?_, hm⟩
  unfold m5_endorse_b161
  rw [em, Option.bind_some]
  have h := hm.1
  exact b166_f (y := 0) (wN_f (by omega)) (by omega)
theorem lsm_57 {W : Wv} {m m' : Mu} {nc i n : Nat} {s d : Int} (hst : ∀ k, k < nC W → m.2 57 k = -1 ∨ m.2 57 k = -2 ∨ (0 ≤ m.2 57 k ∧ m.2 57 k < (nc : Int))) (hi : i < nC W) (h57 : ∀ k, m'.2 57 k = if k = i then s else m.2 57 k) (h1 : m.2 57 i = -1) (h5 : ∀ j, j < nc → m'.2 54 j = m.2 54 j ∧ m'.2 55 j = m.2 55 j) (hd : (if 0 ≤ s then m'.2 55 s.toNat - m'.2 54 s.toNat else 0) = d) : lsm (fun k => if 0 ≤ m'.2 57 k then m'.2 55 (m'.2 57 k).toNat - m'.2 54 (m'.2 57 k).toNat else 0) (nC W) = lsm (fun k => if 0 ≤ m.2 57 k then m.2 55 (m.2 57 k).toNat - m.2 54 (m.2 57 k).toNat else 0) (nC W) + d := by
  refine lsm_up (i := i) (fun k hk hki => ?_) hi ?_
  · rw [h57, if_neg hki]
    have := hst k hk
    by_cases z : 0 ≤ m.2 57 k
    · rw [if_pos z, if_pos z, (h5 _ (by omega)).1, (h5 _ (by omega)).2]
    · rw [if_neg z, if_neg z]
  · rw [h57, if_pos rfl, hd, if_neg (show ¬ 0 ≤ m.2 57 i by omega)]; omega
theorem stead7 {G : CG} {L : Ly} {r a v : Nat} {W : Wv} {oel : Nat → Nat} {kl kb ch ml N2 N3 : Nat} {t2 : Sg} {κ : Nat → Nat} {mb : Nat} {ec : Nat → Nat} {t : Sg} {m : Mu} {nc : Nat} (hC : CTE G L r a v W N2 t2) (h : EF G L r a v W oel kl kb ch ml N2 N3 t2 κ mb ec t m nc) {b : Bool} (h4 : m.1 4 = 4) (h7 : m.1 7 = if b then 24 else 25) : EIT G L r a v W oel kl kb ch ml N2 N3 t2 t m (fun kh => f7_endorsement_b79 G kh (some r) (some kl) (some ch) (some ml) (b2i b) t) (fun kh => m5_endorse_b94 kh v m) := by
  obtain ⟨hE, hB, hst, h58, hsum⟩ := id h
  obtain ⟨hLK, hL3, ⟨hv, hNr⟩, hM⟩ := hC
  obtain ⟨⟨hCX, h287⟩, ⟨h46e, h46, hJ⟩, h56, h3n⟩ := id hE
  have hR := hCX.1
  have htx := hR.2.2.2.1.2.2
  have h5b := hR.2.2.1.2.2
  have hnc : nc ≤ 171 := by omega
  have hM1 := hM.1
  have c24 : nC W ≤ 24 := by unfold nC; omega
  have e23 : W 23 0 = (nC W : Int) := by unfold nC; omega
  obtain ⟨⟨⟨b1, b2⟩, b3, ⟨b4, b5, b6⟩, b7⟩, -, ⟨kc1, kc2, kc3, kc4, kc5⟩, ⟨ch1, ch2, ch3, ch4⟩, -⟩ := id hB
  -- the twin's question
  have ew : m5_isWord 24 m = some (b2i b) := by
    rw [m_w7 hR 24 (by decide)]
    congr 2
    cases b
    · rw [decide_eq_false]; intro q; rw [h7] at q; exact absurd q.2 (by decide)
    · rw [decide_eq_true]; exact ⟨h4, by rw [h7]; rfl⟩
  have wb : w32 (b2i b) = b2i b := w32_b2i
  have ez : ∀ {u : Sg}, zT u r = 8 → ztg u 8 (some r) = some r := fun h => ztg_e h
  obtain ⟨m1, n1, n2, n3⟩ := next8 hR (by omega) (by have := hCX.2.1; omega)
  have M1 : MIe m m1 := MIe_7 n2
  -- the beginning of the twin
  have yb : ∀ kh, m5_endorse_b94 kh v m = if w32 (m1.1 4) = 2 then m5_endorse_b121 kh v (b2i b) (m1.1 7) m1 else m5_endorse_b121 kh v (b2i b) 0 m1 := fun kh => by
    unfold m5_endorse_b94
    rw [ew, Option.bind_some, n1, Option.bind_some]
  rcases n3 with ⟨t1, p1, p2⟩ | ⟨e, t1, p1, p2, p3, p4, p5, p6⟩
  · have E1 := EN_n hE p2
    obtain ⟨q1, q2, q3, q4, q5, q6, q7, q8⟩ := p2
    have F1 : FRo N2 t t1 := FRo_7 (by omega) hNr q3
    have B1 : EB G r W oel kl kb ch ml N2 N3 t2 (m.2 57) (m.2 57) (ceN ec m nc) κ mb ec t1 m1 nc := EB_k hB q3.1 q3.2.1 q3.2.2.1 (fun _ _ => rfl) (fun q hq => by have := hB.2.1 q hq; rw [q4]; exact this) ⟨by rw [q8 46 (by omega)]; exact Int.le_refl _, fun k _ => nd_of (fun j _ => by rw [q7]) k⟩ (fun n _ => by rw [q7]; exact ⟨rfl, rfl, rfl⟩)
    obtain ⟨k1, k2⟩ := tk_w q1.2.2.1
    have h81 : m1.1 8 = 0 := q1.2.2.2.2.2
    have hN21 : N2 ≤ zN t1 ∧ N2 ≤ r := ⟨by omega, hNr⟩
    -- the class up to the kind
    have xb : ∀ kh, f7_endorsement_b79 G kh (some r) (some kl) (some ch) (some ml) (b2i b) t = bdU (f7_wantKind G (some r) 2 t1) fun q6 => tel q6.1 (fun e7 => some (.inl (e7, q6.2), 0, 0)) fun x8 => (gfI q6.2 8 284 (some r)).bind fun x9 => if (w32 (x9 - 1)) < 0 then some ((.inr (.inl q6.2)), 0, 0) else (ztg q6.2 6 (some kl)).bind fun b10 => (fJ2_size G (some b10) q6.2).bind fun x11 => if (w32 x11) ≤ (w32 (x9 - 1)) then some ((.inr (.inl q6.2)), 0, 0) else (alI q6.2 3 (some ch) (x9 - 1)).bind fun x12 => if (w32 x12) = 0 then (asI G.2.2.2.1 q6.2 3 (some ch) (x9 - 1) (nz 1)).bind fun u13 => (ztg u13 8 (some r)).bind fun b14 => bdU (f7_next G (some b14) u13) fun q15 => tel q15.1 (fun e16 => some (.inl (e16, q15.2), 0, 0)) fun x17 => if (w32 (b2i b)) = 0 then (ztg q15.2 8 (some r)).bind fun b18 => (f7_isClause G (some b18) q15.2).bind fun x19 => if (w32 x19) = 0 then some ((.inr (.inr (.inl q15.2))), 0, 0) else f7_endorsement_b175 G (kh) (some r) (some kl) (some ch) (some ml) (b2i b) (x9 - 1) q15.2 else (ztg q15.2 8 (some r)).bind fun b21 => bdU (f7_want G (some b21) 59 q15.2) fun q22 => tel q22.1 (fun e23 => some (.inl (e23, q22.2), 0, 0)) fun x24 => f7_endorsement_b175 G (kh) (some r) (some kl) (some ch) (some ml) (b2i b) (x9 - 1) q22.2 else some ((.inr (.inl q6.2)), 0, 0) := fun kh => by
      unfold f7_endorsement_b79
      rw [ez hR.1.1.1, Option.bind_some, p1, te_ok]
      dsimp only
      rw [ez q1.1.1.1, Option.bind_some]
    rcases want_kind q1 (K := 2) (by omega) with ⟨z2, w1⟩ | ⟨z2, e, t', w1, w2⟩
    · -- a number
      have hv7 := k2 (Or.inl z2)
      have hb7 : m1.1 7 ≤ 999999999 := by
        rcases q1.2.2.1.2.2.2.2.2 with y | ⟨-, y | y | y | y⟩
        · omega
        · omega
        · exact y.2.2.2.2
        · have := y.2.1; omega
        · have := y.2.1; omega
      have g284 : zI t1 r 284 = m1.1 7 := by
        rcases q1.2.2.1.2.2.2.2.2 with y | ⟨-, y | y | y | y⟩
        · omega
        · omega
        · exact y.2.2.1
        · have := y.2.1; omega
        · have := y.2.1; omega
      have w71 : w32 (m1.1 7 - 1) = m1.1 7 - 1 := w32_id (by omega) (by omega)
      have yb2 : ∀ kh, m5_endorse_b94 kh v m = m5_endorse_b121 kh v (b2i b) (m1.1 7) m1 := fun kh => by rw [yb, k1.2.2.1, if_pos z2]
      have e231 : mald m1 23 14 (v : Int) = some (nC W : Int) := by
        rw [← e23, ← E1.1.1.2.2.2.1.1]
        exact m_sl (w := v) (k := 23) (j := 0) (by decide) (by show (v : Int) = ((1 * v + 0 : Nat) : Int); omega) (by show 1 * v + 0 < 14; omega) (by omega)
      -- a fault of the kind 5
      have five : (∀ K0 kh, XS G r K0 (f7_endorsement_b79 G kh (some r) (some kl) (some ch) (some ml) (b2i b) t) = XS G r K0 (some ((.inr (.inl t1)), 0, 0))) → (∀ kh, m5_endorse_b94 kh v m = m5_endorse_b161 kh v (b2i b) m1) → EIT G L r a v W oel kl kb ch ml N2 N3 t2 t m (fun kh => f7_endorsement_b79 G kh (some r) (some kl) (some ch) (some ml) (b2i b) t) (fun kh => m5_endorse_b94 kh v m) := fun hx hy => by
        obtain ⟨m', em, hm⟩ : ∃ m', (∀ kh : Mu → Option (Mu ⊕ Mu), m5_endorse_b161 kh v (b2i b) m1 = some (.inl m')) ∧ MF m1 m' 5 (m1.1 5) := by
          obtain ⟨m', em, hm, -⟩ := m_wrong h81 5
          refine ⟨m', fun kh => ?_, hm⟩
          unfold m5_endorse_b161
          rw [em, Option.bind_some]
          have h := hm.1
          exact b166_f (y := 0) (wN_f (by omega)) (by omega)
        obtain ⟨t', e1, hth⟩ := XS_1 q1
        exact Or.inr ⟨zN t1, t', 1, 8, 5, m1.1 5, m', fun K0 kh => (hx K0 kh).trans (e1 K0), THI_tr F1 hN21 (by omega) hth (by omega) (by omega), MFe_B M1 (Or.inl hm), Or.inr ⟨⟨hm.1, hm.2.1⟩, fun kh => (hy kh).trans (em kh)⟩⟩
      by_cases zlo : m1.1 7 < 1
      · refine five (fun K0 kh => ?_) (fun kh => ?_)
        · rw [xb, w1, te_ok]
          dsimp only
          rw [gfI_v q1.1.1.1 g284, Option.bind_some, w71, if_pos (by omega)]
        · rw [yb2]
          unfold m5_endorse_b121
          rw [k1.2.2.1, if_pos z2, hv7.1, if_pos zlo]
      obtain ⟨i, hi⟩ : ∃ i : Nat, m1.1 7 = (i : Int) + 1 := ⟨(m1.1 7 - 1).toNat, by omega⟩
      have ei : m1.1 7 - 1 = (i : Int) := by omega
      have szk : fJ2_size G (some kl) t1 = some (nC W : Int) := J_size B1.2.2.1.1
      have tkl : ztg t1 6 (some kl) = some kl := ztg_e B1.2.2.1.1.1
      by_cases zhi : nC W ≤ i
      · refine five (fun K0 kh => ?_) (fun kh => ?_)
        · rw [xb, w1, te_ok]
          dsimp only
          rw [gfI_v q1.1.1.1 g284, Option.bind_some, w71, if_neg (by omega), tkl, Option.bind_some, szk, Option.bind_some, w32_n (by omega), ei, if_pos (by omega)]
        · rw [yb2]
          unfold m5_endorse_b121
          rw [k1.2.2.1, if_pos z2, hv7.1, if_neg zlo, e231, Option.bind_some, w32_n (by omega), if_pos (by omega)]
      have hin : i < nC W := by omega
      have e57 : mald m1 57 24 (m1.1 7 - 1) = some (m.2 57 i) := by rw [mald_e i ei (by omega) (by omega), q7]
      have hsti := hst i hin
      have w57 : w32 (m.2 57 i) = m.2 57 i := w32_id (by omega) (by omega)
      have ech : alI t1 3 (some ch) (i : Int) = some (if m.2 57 i = -1 then 0 else 1) := by
        rw [alI_e (t := 3) (i := (i : Int)) i B1.2.2.2.1.1 rfl (by rw [B1.2.2.2.1.2.1]; omega) (by rw [B1.2.2.2.1.2.1]; omega), B1.2.2.2.1.2.2.2 i hin]
      by_cases zst : m.2 57 i = -1
      rotate_left
      · refine five (fun K0 kh => ?_) (fun kh => ?_)
        · rw [xb, w1, te_ok]
          dsimp only
          rw [gfI_v q1.1.1.1 g284, Option.bind_some, w71, if_neg (by omega), tkl, Option.bind_some, szk, Option.bind_some, w32_n (by omega), ei, if_neg (by omega), ech, Option.bind_some, if_neg zst, if_neg (show ¬ w32 1 = 0 by decide)]
        · rw [yb2]
          unfold m5_endorse_b121
          rw [k1.2.2.1, if_pos z2, hv7.1, if_neg zlo, e231, Option.bind_some, w32_n (by omega), if_neg (by omega), e57, Option.bind_some, w57, if_neg zst]
      -- the number will do
      have yb3 : ∀ kh, m5_endorse_b94 kh v m = m5_endorse_b166 kh v (b2i b) m1 := fun kh => by
        rw [yb2]
        unfold m5_endorse_b121
        rw [k1.2.2.1, if_pos z2, hv7.1, if_neg zlo, e231, Option.bind_some, w32_n (by omega), if_neg (by omega), e57, Option.bind_some, w57, if_pos zst]
      obtain ⟨sN, hsN⟩ : ∃ sN : Int, sN = if b then -2 else (nc : Int) := ⟨_, rfl⟩
      have sN1 : sN ≠ -1 := by rw [hsN]; cases b <;> simp <;> omega
      obtain ⟨tc, g1, g2, ⟨g3, g4, g5⟩, g6⟩ := EB_ch (s := sN) B1 hin c24 sN1
      have rch : r ≠ ch := fun e => by rw [← e, b6] at ch1; exact absurd ch1 (by decide)
      have Ec : EN G L r a v W tc m1 nc := EN_o E1 g3 (fun q hq => g5 q (by
        rcases hq with hq | hq
        · omega
        · rw [hq]; exact rch)) hLK g2.1.1 hNr hL3 rfl rfl rfl rfl
      have Fc : FRo N2 t tc := FRo_tr F1 ⟨g3, fun q hq => g5 q (by omega)⟩
      have qc := Ec.1.1.1
      obtain ⟨m2, v1, v2, v3⟩ := next8 qc (by omega) (by have := Ec.1.1.2.1; omega)
      have ywn : m5_wantsNumber 0 999999999 m1 = some (m1.1 7, m2) := by rw [wN_ok h81 z2 ⟨by omega, hb7⟩, v1]; rfl
      have M2 : MIe m m2 := MIe_tr M1 (MIe_7 v2)
      have h82 : m2.1 8 = 0 := by
        rcases v3 with ⟨t', -, y⟩ | ⟨e, t', -, -, -, y, -⟩
        · exact y.1.2.2.2.2.2
        · exact y
      have o2 : m2.2 = m1.2 ∧ ∀ k, (k < 3 ∨ 7 < k) → m2.1 k = m1.1 k := by
        rcases v3 with ⟨t', -, y⟩ | ⟨e, t', -, -, -, -, y1, y2⟩
        · exact ⟨y.2.2.2.2.2.2.1, y.2.2.2.2.2.2.2⟩
        · exact ⟨y1, y2⟩
      obtain ⟨m3, hm3⟩ : ∃ m3, m3 = ma m2 57 i sN := ⟨_, rfl⟩
      have e356 : m2.1 56 = (nc : Int) := by rw [o2.2 56 (by omega), q8 56 (by omega)]; exact h56
      have yb4 : ∀ kh, m5_endorse_b94 kh v m = if w32 (b2i b) = 0 then (m5_isClause m3).bind fun x2 => if (w32 x2) = 0 then (m5_cannot m3).bind fun u3 => kh u3 else (mast m3 58 1400 (m3.1 56) (nz 1)).bind fun u4 => (m5_readClause u4).bind fun u5 => kh u5 else (m5_wantsSign 6 m3).bind fun u7 => kh u7 := fun kh => by
        rw [yb3, b166_t ywn h82, ei]
        unfold m5_endorse_b207
        rw [mast_e i rfl (by omega) (by omega), mast_e i rfl (by omega) (by omega), Option.bind_some, Option.bind_some, e356, hm3, hsN]
        cases b
        · rw [show b2i false = 0 from rfl, if_pos (by decide), if_pos (by decide), if_pos (by decide), if_neg (by decide)]
        · rw [show b2i true = 1 from rfl, if_neg (by decide), if_neg (by decide), if_neg (by decide), if_pos rfl]
      have M3 : MIe m m3 := MIe_tr M2 (by rw [hm3]; exact MIe_ma (Or.inl rfl))
      have e31 : m3.1 = m2.1 := by rw [hm3]; rfl
      -- the class up to the second token
      have xb2 : ∀ kh, f7_endorsement_b79 G kh (some r) (some kl) (some ch) (some ml) (b2i b) t = bdU (f7_next G (some r) tc) fun q15 => tel q15.1 (fun e16 => some (.inl (e16, q15.2), 0, 0)) fun x17 => if (w32 (b2i b)) = 0 then (ztg q15.2 8 (some r)).bind fun b18 => (f7_isClause G (some b18) q15.2).bind fun x19 => if (w32 x19) = 0 then some ((.inr (.inr (.inl q15.2))), 0, 0) else f7_endorsement_b175 G (kh) (some r) (some kl) (some ch) (some ml) (b2i b) (i : Int) q15.2 else (ztg q15.2 8 (some r)).bind fun b21 => bdU (f7_want G (some b21) 59 q15.2) fun q22 => tel q22.1 (fun e23 => some (.inl (e23, q22.2), 0, 0)) fun x24 => f7_endorsement_b175 G (kh) (some r) (some kl) (some ch) (some ml) (b2i b) (i : Int) q22.2 := fun kh => by
        rw [xb, w1, te_ok]
        dsimp only
        rw [gfI_v q1.1.1.1 g284, Option.bind_some, w71, if_neg (by omega), tkl, Option.bind_some, szk, Option.bind_some, w32_n (by omega), ei, if_neg (by omega), ech, Option.bind_some, if_pos zst, if_pos (show w32 0 = 0 by decide), g1, Option.bind_some, ez qc.1.1.1, Option.bind_some]
      have hNc : N2 ≤ zN tc ∧ N2 ≤ r := ⟨by omega, hNr⟩
      rcases v3 with ⟨t3, u1, u2⟩ | ⟨e, t3, u1, u2, u3, u4, u5, u6⟩
      · have E2 := EN_n Ec u2
        have B2 : EB G r W oel kl kb ch ml N2 N3 t2 (m.2 57) (fun k => if k = i then sN else m.2 57 k) (ceN ec m nc) κ mb ec t3 m2 nc := EB_k g2 u2.2.2.1.1 u2.2.2.1.2.1 u2.2.2.1.2.2.1 (fun _ _ => rfl) (fun q hq => by have := g2.2.1 q hq; rw [u2.2.2.2.1]; exact this) ⟨by rw [o2.2 46 (by omega)]; exact Int.le_refl _, fun k _ => nd_of (fun j _ => by rw [o2.1]) k⟩ (fun n _ => by rw [o2.1]; exact ⟨rfl, rfl, rfl⟩)
        have a3 : ∀ k, k ≠ 57 → m3.2 k = m2.2 k := fun k hk => by rw [hm3, ma_o hk]
        have g3fr : gro t2 t3 ∧ ∀ q, q < N2 → sam t2 t3 q := B2.1.1
        have E3 : EN G L r a v W t3 m3 nc := EN_o E2 gro_rf (fun _ _ => sam_rf) hLK g3fr hNr hL3 e31 (a3 0 (by decide)) (a3 1 (by decide)) (slc_fr (S := []) (T := [57]) ⟨fun k _ => by rw [e31], fun k hk => a3 k (by simpa using hk)⟩ (by decide))
        have B3 : EB G r W oel kl kb ch ml N2 N3 t2 (m.2 57) (fun k => if k = i then sN else m.2 57 k) (ceN ec m nc) κ mb ec t3 m3 nc := EB_k B2 gro_rf (fun _ _ _ => sam_rf) rfl (fun _ _ => rfl) B2.2.1 ⟨by rw [e31]; exact Int.le_refl _, fun k _ => nd_of (fun j hj => a3 j (by omega)) k⟩ (fun n _ => by rw [a3 53 (by decide), a3 54 (by decide), a3 55 (by decide)]; exact ⟨rfl, rfl, rfl⟩)
        have r3 := E3.1.1.1
        have F3 : FRo N2 t t3 := FRo_tr Fc (FRo_7 (by omega) hNr u2.2.2.1)
        have hN3 : N2 ≤ zN t3 ∧ N2 ≤ r := ⟨by rw [u2.2.2.2.1]; omega, hNr⟩
        have h25 : m1.1 5 < m2.1 5 := u2.2.2.2.2.2.1
        have h357 : ∀ k, m3.2 57 k = if k = i then sN else m.2 57 k := fun k => by rw [hm3, ma_s, o2.1, q7]
        have h3o : ∀ k, k ≠ 57 → m3.2 k = m.2 k := fun k hk => by rw [a3 k hk, o2.1, q7]
        have rkb : ∀ {u : Sg}, N2 ≤ kb → (∀ q, q ≠ kb → sam t3 u q) → True := fun _ _ => trivial
        cases b
        · -- in its stead
          have xb3 : ∀ kh, f7_endorsement_b79 G kh (some r) (some kl) (some ch) (some ml) (b2i false) t = if m3.1 4 = 4 ∧ 6 ≤ m3.1 7 ∧ m3.1 7 ≤ 8 then (f7_endorsement_b175 G (kh) (some r) (some kl) (some ch) (some ml) (b2i false) (i : Int) t3) else some ((.inr (.inr (.inl t3))), 0, 0) := fun kh => by
            rw [xb2, u1, te_ok]
            dsimp only
            rw [if_pos (show w32 (b2i false) = 0 by decide), ez r3.1.1.1, Option.bind_some, c_isCl r3, Option.bind_some]
            by_cases z : m3.1 4 = 4 ∧ 6 ≤ m3.1 7 ∧ m3.1 7 ≤ 8
            · rw [if_pos z, if_pos z, if_neg (by decide)]
            · rw [if_neg z, if_neg z, if_pos (by decide)]
          have yb5 : ∀ kh, m5_endorse_b94 kh v m = if m3.1 4 = 4 ∧ 6 ≤ m3.1 7 ∧ m3.1 7 ≤ 8 then (mast m3 58 1400 (m3.1 56) (nz 1)).bind fun u4 => (m5_readClause u4).bind fun u5 => kh u5 else (m5_cannot m3).bind fun u3 => kh u3 := fun kh => by
            rw [yb4, if_pos (show w32 (b2i false) = 0 by decide), m_isCl r3, Option.bind_some]
            by_cases z : m3.1 4 = 4 ∧ 6 ≤ m3.1 7 ∧ m3.1 7 ≤ 8
            · rw [if_pos z, if_pos z, if_neg (by decide)]
            · rw [if_neg z, if_neg z, if_pos (by decide)]
          by_cases zc : m3.1 4 = 4 ∧ 6 ≤ m3.1 7 ∧ m3.1 7 ≤ 8
          · obtain ⟨kd, hkd⟩ : ∃ kd : Nat, m3.1 7 = 6 + (kd : Int) := ⟨(m3.1 7 - 6).toNat, by omega⟩
            have hkd3 : kd < 3 := by omega
            have n1' : nz 1 = 1 := by decide
            have e356' : m3.1 56 = (nc : Int) := by rw [e31]; exact e356
            obtain ⟨m4, hm4⟩ : ∃ m4, m4 = ma m3 58 nc 1 := ⟨_, rfl⟩
            have e41 : m4.1 = m3.1 := by rw [hm4]; rfl
            have a4 : ∀ k, k ≠ 58 → m4.2 k = m3.2 k := fun k hk => by rw [hm4, ma_o hk]
            have M4 : MIe m m4 := MIe_tr M3 (by rw [hm4]; exact MIe_ma (Or.inr rfl))
            have E4 : EN G L r a v W t3 m4 nc := EN_o E3 gro_rf (fun _ _ => sam_rf) hLK g3fr hNr hL3 e41 (a4 0 (by decide)) (a4 1 (by decide)) (slc_fr (S := []) (T := [58]) ⟨fun k _ => by rw [e41], fun k hk => a4 k (by simpa using hk)⟩ (by decide))
            have B4 : EB G r W oel kl kb ch ml N2 N3 t2 (m.2 57) (fun k => if k = i then sN else m.2 57 k) (ceN ec m nc) κ mb ec t3 m4 nc := EB_k B3 gro_rf (fun _ _ _ => sam_rf) rfl (fun _ _ => rfl) B3.2.1 ⟨by rw [e41]; exact Int.le_refl _, fun k _ => nd_of (fun j hj => a4 j (by omega)) k⟩ (fun n _ => by rw [a4 53 (by decide), a4 54 (by decide), a4 55 (by decide)]; exact ⟨rfl, rfl, rfl⟩)
            obtain ⟨⟨hCX4, h2874⟩, ⟨-, h464, hJ4⟩, h564, -⟩ := id E4
            have ek := c_clk r3 zc.1 hkd3 hkd
            have yb6 : ∀ kh, m5_endorse_b94 kh v m = (m5_readClause m4).bind fun u5 => kh u5 := fun kh => by
              rw [yb5, if_pos zc, mast_e nc e356' (by omega) (by omega), Option.bind_some, n1', ← hm4]
            have xb4 : ∀ kh, f7_endorsement_b79 G kh (some r) (some kl) (some ch) (some ml) (b2i false) t = bdU (f7_clause_b29 G (some r) kd t3) fun q2 => tel q2.1 (fun e3 => some (.inl (e3, q2.2), 0, 0)) fun x4 => f7_endorsement_b191 G (kh) (some r) (some kl) (some ch) (some ml) (some kl) (i : Int) x4 q2.2 := fun kh => by
              rw [xb3, if_pos zc]
              unfold f7_endorsement_b175
              rw [if_pos (show w32 (b2i false) = 0 by decide), ez r3.1.1.1, Option.bind_some, ek]
            rcases clauseR hCX4 h2874 h464 hJ4 (by rw [e41]; exact zc.1) hkd3 (by rw [e41]; exact hkd) h564 (by omega) with ⟨x, c, t5, cc, nn, m5, ns, y1, y2, y3, y4, y5, y6⟩ | ⟨e, t5, cc, nn, K, P, m5, y1, y2, y3, y4⟩
            · rw [e41, e31] at y4 y5 y6
              have E5 := EN_cl E4 y3 (by rw [e41, e31]; exact y4)
              have B5 := EB_cl B4 y3 hkd3 h464 (fun k hk => by rcases hst k hk with q | q | q <;> omega)
              obtain ⟨⟨x1, x2, x3⟩, ⟨v1', v2', v3', v4', v5', v6'⟩, ⟨z1, z2', z3, z4, z5, z6, z7⟩, ⟨ww1, ww2, ww3, ww4, ww5⟩, fr⟩ := y3
              have eki : kvE oel (fun j => if j < nc then ec j else x) i (nc : Int) = some x := by
                unfold kvE
                rw [if_neg (by omega), if_neg (by omega)]
                show some (if ((nc : Nat) : Int).toNat < nc then ec ((nc : Nat) : Int).toNat else x) = some x
                rw [Int.toNat_natCast, if_neg (by omega)]
              obtain ⟨t6, s1, s2, ⟨s3, s4, s5⟩, s6⟩ := EB_set (i := i) (s := (nc : Int)) B5 hin (fun y hy => by
                rw [eki] at hy; cases hy
                rw [v1']; exact ⟨by decide, v3'⟩)
              rw [eki] at s1
              have hsN' : sN = (nc : Int) := by rw [hsN]; rfl
              have rk : r ≠ kb := fun e => by have := kc1.2.2.2.1; rw [← e, b6] at this; exact absurd this (by decide)
              have E6 : EN G L r a v W t6 m5 (nc + 1) := EN_o E5 s3 (fun q hq => s5 q (by
                rcases hq with hq | hq
                · omega
                · rw [hq]; exact rk)) hLK s2.1.1 hNr hL3 rfl rfl rfl rfl
              have f57 : m5.2 57 = fun k => if k = i then sN else m.2 57 k := by
                rw [fr.2 57 (by decide), a4 57 (by decide)]; funext k; exact h357 k
              have f58 : ∀ j, m5.2 58 j = if j = nc then 1 else m.2 58 j := fun j => by rw [fr.2 58 (by decide), hm4, ma_s, h3o 58 (by decide)]
              have o5 : ∀ j, j ≠ nc → m5.2 54 j = m.2 54 j ∧ m5.2 55 j = m.2 55 j := fun j hj => by
                obtain ⟨-, p2, p3⟩ := ww5 j hj
                rw [p2, p3, a4 54 (by decide), a4 55 (by decide), h3o 54 (by decide), h3o 55 (by decide)]; exact ⟨rfl, rfl⟩
              have eN : ceN (fun j => if j < nc then ec j else x) m5 (nc + 1) = ceN ec m nc := by
                show ceN _ m5 nc ++ (if m5.2 58 nc = 0 then _ else []) = _
                rw [ceN_cg (ec := ec) (ec' := fun j => if j < nc then ec j else x) (m := m) (m' := m5) nc (fun j hj => ⟨by rw [f58, if_neg (by omega)], if_pos hj⟩), f58, if_pos rfl, if_neg (by decide), List.append_nil]
              have hg5 := x3.1.1
              refine Or.inl ⟨t6, cc, nn, m5, fzn κ (zN t3) (zN t5), mb, fun j => if j < nc then ec j else x, nc + 1, fun kh => ?_, fun kh => ?_, ⟨E6, ?_, fun k hk => ?_, fun j hj => ?_, ?_⟩, MIe_tr M4 (MIe_I (MI_E fr)), FRo_tr F3 (FRo_tr (FRo_7 (by omega) hNr x3) ⟨s3, fun q hq => s5 q (by omega)⟩), by omega, by omega, by omega⟩
              · dsimp only
                rw [xb4, y1, te_okc]
                dsimp only
                unfold f7_endorsement_b191
                rw [ztg_e B5.2.2.1.1.1, Option.bind_some, s1, Option.bind_some]
              · dsimp only
                rw [yb6, y2, Option.bind_some]
              · rw [eN, f57, hsN']
                rw [hsN'] at s2
                exact s2
              · rw [f57]
                dsimp only
                by_cases z : k = i
                · rw [if_pos z, hsN']; omega
                · rw [if_neg z]; have := hst k hk; omega
              · rw [f58]
                by_cases z : j = nc
                · rw [if_pos z]; exact Or.inr rfl
                · rw [if_neg z]; exact h58 j (by omega)
              · rw [lsm_s, f58, if_pos rfl, if_neg (by decide), lsm_57 (m := m) (m' := m5) (nc := nc) (i := i) (n := 0) (s := sN) (d := (ns.length : Int)) hst hin (fun k => by rw [f57]) zst (fun j hj => o5 j (by omega)) (by rw [hsN', if_pos (by omega), Int.toNat_natCast, ww3, ww4]; omega), lsm_cg (n := nc) (g := fun j => if m.2 58 j = 0 then m.2 55 j - m.2 54 j else 0) (fun j hj => by
                  rw [f58, if_neg (show ¬ j = nc by omega), (o5 j (by omega)).1, (o5 j (by omega)).2])]
                have : m4.1 46 = m.1 46 := by rw [e41, e31, o2.2 46 (by omega), q8 46 (by omega)]
                omega
            · rw [e41, e31] at y2
              refine Or.inr ⟨e, t5, cc, nn, K, P, m5, fun K0 kh => ?_, THI_tr F3 hN3 (by omega) y2 (by omega) (by omega), MFe_I M4 y4, Or.inl (fun kh => ?_)⟩
              · dsimp only
                rw [xb4, y1]; exact XS_t y2.1
              · dsimp only
                rw [yb6, y3, Option.bind_some]
          · obtain ⟨m4, em, hm⟩ := m_cannot r3.2.2.2.2.2 (tk_w r3.2.2.1).1.2.2.1
            have := (tk_w r3.2.2.1).1
            rw [if_neg (by omega), e31] at hm
            obtain ⟨t', z1, z2'⟩ := XS_2 r3
            rw [e31] at z2'
            refine Or.inr ⟨zN t3, t', 1, 8, 2, m2.1 5, m4, fun K0 kh => ?_, THI_tr F3 hN3 (by omega) z2' (by omega) (by omega), MFe_B M3 (Or.inl hm), Or.inl (fun kh => ?_)⟩
            · dsimp only
              rw [xb3, if_neg zc]; exact z1 K0
            · dsimp only
              rw [yb5, if_neg zc, em, Option.bind_some]
        · -- struck
          have xb3 : ∀ kh, f7_endorsement_b79 G kh (some r) (some kl) (some ch) (some ml) (b2i true) t = bdU (f7_want G (some r) 59 t3) fun q22 => tel q22.1 (fun e23 => some (.inl (e23, q22.2), 0, 0)) fun x24 => f7_endorsement_b175 G (kh) (some r) (some kl) (some ch) (some ml) (b2i true) (i : Int) q22.2 := fun kh => by
            rw [xb2, u1, te_ok]
            dsimp only
            rw [if_neg (show ¬ w32 (b2i true) = 0 by decide), ez r3.1.1.1, Option.bind_some]
          have yb5 : ∀ kh, m5_endorse_b94 kh v m = (m5_wantsSign 6 m3).bind fun u7 => kh u7 := fun kh => by rw [yb4, if_neg (show ¬ w32 (b2i true) = 0 by decide)]
          obtain ⟨m4, y1, y2⟩ := want7 r3 (by have := E3.1.1.2.1; omega) (j := 6) (by decide) (l := 59) (v := 6) rfl rfl
          rw [e31] at y2
          rcases y2 with ⟨t4, y2, y3⟩ | ⟨e, t4, K, P, y2, y3, y4⟩
          · have E4 := EN_n E3 y3
            obtain ⟨z1, z2', z3, z4, z5, z6, z7, z8⟩ := y3
            rw [e31] at z6
            have B4 : EB G r W oel kl kb ch ml N2 N3 t2 (m.2 57) (fun k => if k = i then sN else m.2 57 k) (ceN ec m nc) κ mb ec t4 m4 nc := EB_k B3 z3.1 z3.2.1 z3.2.2.1 (fun _ _ => rfl) (fun q hq => by have := B3.2.1 q hq; rw [z4]; exact this) ⟨by rw [z8 46 (by omega)]; exact Int.le_refl _, fun k _ => nd_of (fun j _ => by rw [z7]) k⟩ (fun n _ => by rw [z7]; exact ⟨rfl, rfl, rfl⟩)
            obtain ⟨t6, s1, s2, ⟨s3, s4, s5⟩, s6⟩ := EB_set (i := i) (s := -2) B4 hin (fun y hy => by cases hy)
            have eki : kvE oel ec i (-2) = none := rfl
            rw [eki] at s1
            have hsN' : sN = -2 := by rw [hsN]; rfl
            have rk : r ≠ kb := fun e => by have := kc1.2.2.2.1; rw [← e, b6] at this; exact absurd this (by decide)
            have E6 : EN G L r a v W t6 m4 nc := EN_o E4 s3 (fun q hq => s5 q (by
              rcases hq with hq | hq
              · omega
              · rw [hq]; exact rk)) hLK s2.1.1 hNr hL3 rfl rfl rfl rfl
            have f57 : m4.2 57 = fun k => if k = i then sN else m.2 57 k := by rw [z7]; funext k; exact h357 k
            have f4o : ∀ k, k ≠ 57 → m4.2 k = m.2 k := fun k hk => by rw [z7]; exact h3o k hk
            refine Or.inl ⟨t6, 0, 0, m4, κ, mb, ec, nc, fun kh => ?_, fun kh => ?_, ⟨E6, ?_, fun k hk => ?_, fun j hj => ?_, ?_⟩, MIe_tr M3 (MIe_7 ⟨fun k hk => z8 k (by simp only [CS7, List.mem_cons, List.not_mem_nil, or_false] at hk; omega), fun k _ => by rw [z7]⟩), FRo_tr F3 (FRo_tr (FRo_7 (by omega) hNr z3) ⟨s3, fun q hq => s5 q (by omega)⟩), by omega, by omega, by omega⟩
            · dsimp only
              rw [xb3, y2, te_ok]
              dsimp only
              unfold f7_endorsement_b175 f7_endorsement_b191
              rw [if_neg (show ¬ w32 (b2i true) = 0 by decide), ztg_e B4.2.2.1.1.1, Option.bind_some, s1, Option.bind_some]
              cases kh t6 <;> rfl
            · dsimp only
              rw [yb5, y1, Option.bind_some]
            · rw [ceN_cg (ec := ec) (ec' := ec) (m := m) (m' := m4) nc (fun j hj => ⟨by rw [f4o 58 (by decide)], rfl⟩), f57, hsN']
              rw [hsN'] at s2
              exact s2
            · rw [f57]
              dsimp only
              by_cases z : k = i
              · rw [if_pos z, hsN']; omega
              · rw [if_neg z]; exact hst k hk
            · rw [f4o 58 (by decide)]; exact h58 j hj
            · rw [lsm_57 (m := m) (m' := m4) (nc := nc) (i := i) (n := 0) (s := sN) (d := 0) hst hin (fun k => by rw [f57]) zst (fun j hj => by rw [f4o 54 (by decide), f4o 55 (by decide)]; exact ⟨rfl, rfl⟩) (by rw [hsN', if_neg (by decide)]), f4o 58 (by decide), f4o 54 (by decide), f4o 55 (by decide), z8 46 (by omega), e31, o2.2 46 (by omega), q8 46 (by omega)]
              omega
          · refine Or.inr ⟨e, t4, 1, 8, K, P, m4, fun K0 kh => ?_, THI_tr F3 hN3 (by omega) y3 (by have := TH_K y3; omega) (by have := TH_K y3; omega), MFe_B M3 y4, Or.inl (fun kh => ?_)⟩
            · dsimp only
              rw [xb3, y2]; exact XS_t y3.1
            · dsimp only
              rw [yb5, y1, Option.bind_some]
      · -- the token behind the number is bad
        have h84 : ∃ m4, (∀ kh, m5_endorse_b94 kh v m = kh m4) ∧ MF m3 m4 1 (m2.1 5) := by
          have h38 : m3.1 8 = 0 := by rw [e31]; exact u4
          have h34 : m3.1 4 = 5 := by rw [e31]; exact u3
          cases b
          · obtain ⟨m4, em, hm⟩ := m_cannot h38 (by rw [h34]; decide)
            rw [if_pos h34, e31] at hm
            refine ⟨m4, fun kh => ?_, hm⟩
            rw [yb4, if_pos (by decide)]
            unfold m5_isClause
            rw [h34, if_neg (by decide), Option.bind_some, if_pos (by decide), em, Option.bind_some]
          · obtain ⟨m4, em, hm⟩ := wS_b (v := 6) (by decide) h38 h34
            rw [e31] at hm
            refine ⟨m4, fun kh => ?_, hm⟩
            rw [yb4, if_neg (by decide), em, Option.bind_some]
        obtain ⟨m4, y1, y2⟩ := h84
        refine Or.inr ⟨e, t3, 1, 8, 1, m2.1 5, m4, fun K0 kh => ?_, THI_tr Fc hNc (by omega) u2 (by omega) (by omega), MFe_B M3 (Or.inl y2), Or.inl y1⟩
        dsimp only
        rw [xb2, u1]; exact XS_t u2.1
    · -- no number
      obtain ⟨m2, y1, y2⟩ := wN_no h81 k1.2.2.1 z2 (by omega)
      obtain ⟨r1, r2, r3, r4, r5, r6, r7, r8⟩ := id w2
      refine Or.inr ⟨e, t', 1, 8, 2, m1.1 5, m2, fun K0 kh => ?_, THI_tr F1 hN21 (by omega) w2 (by omega) (by omega), MFe_B M1 (Or.inl y2), Or.inr ⟨⟨y2.1, y2.2.1⟩, fun kh => ?_⟩⟩
      · dsimp only
        rw [xb, w1]; exact XS_t r1
      · dsimp only
        rw [yb, k1.2.2.1, if_neg z2]
        unfold m5_endorse_b121
        rw [k1.2.2.1, if_neg z2]
        have := y2.1
        exact b166_f y1 (by omega)
  · -- the token behind is bad
    obtain ⟨m2, y1, y2⟩ := wN_b (lo := 0) (hi := 999999999) p4 p3
    refine Or.inr ⟨e, t1, 1, 8, 1, m1.1 5, m2, fun K0 kh => ?_, THI_tr FRo_rf ⟨by omega, hNr⟩ (Int.le_refl _) p2 (by omega) (by omega), MFe_B M1 (Or.inl y2), Or.inr ⟨⟨y2.1, y2.2.1⟩, fun kh => ?_⟩⟩
    · dsimp only
      unfold f7_endorsement_b79
      rw [ez hR.1.1.1, Option.bind_some, p1]; exact XS_t p2.1
    · dsimp only
      rw [yb, p3, if_neg (by decide)]
      unfold m5_endorse_b121
      rw [p3, if_neg (by decide)]
      have := y2.1
      exact b166_f y1 (by omega)

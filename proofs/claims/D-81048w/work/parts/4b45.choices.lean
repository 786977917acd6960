/-! THE READER: the choices of a fact: the loop -/
noncomputable def XL (G : CG) (r b fuel : Nat) (t : Sg) : Option (((Nat ⊕ Unit) × Sg) × Nat × Nat) :=
  bdU (f7_choices_l0 G (some r) (some b) fuel t)
    (Sum.elim (fun e15 => xth e15.1 e15.2)
      (Sum.elim
        (fun q1 =>
          bdU (zNew q1 9 8) fun q2 =>
          (gfI q2.2 8 282 (some r)).bind fun x3 =>
          (f8_init G (some q2.1) 3 x3 q2.2).bind fun u4 =>
          xth q2.1 u4)
        (Sum.elim
          (fun q5 =>
            bdU (zNew q5 9 8) fun q6 =>
            (gfI q6.2 8 282 (some r)).bind fun x7 =>
            (f8_init G (some q6.1) 6 x7 q6.2).bind fun u8 =>
            xth q6.1 u8)
          (fun q9 =>
            (gfI q9 10 363 (some b)).bind fun x10 =>
            if 2 ≤ (w32 x10) then
              some ((.inr (), q9), 0, 0)
            else
              bdU (zNew q9 9 8) fun q11 =>
              (gfI q11.2 8 282 (some r)).bind fun x12 =>
              (f8_init G (some q11.1) 2 x12 q11.2).bind fun u13 =>
              xth q11.1 u13))))
theorem xl_thr {α β : Type} {e : Nat} {u : Sg} {c n : Nat} {K : (Nat ⊕ α) × Sg → α → Option (((Nat × Sg) ⊕ β) × Nat × Nat)} : (bdU (some (((.inl e : Nat ⊕ α), u), c, n)) fun q => tel q.1 (fun e' => some ((.inl (e', q.2) : (Nat × Sg) ⊕ β), 0, 0)) fun x => K q x) = some (.inl (e, u), 0 + c, 0 + n) := rfl
theorem XL_e {G : CG} {r b : Nat} {t : Sg} : f7_choices G (some r) (some b) t = XL G r b NN t := rfl
/-- what the choices come to -/
def CHO (G : CG) (L : Ly) (r N0 n b c : Nat) (x y : Int) (t1 : Sg) (m1 : Mu) (X : Option (((Nat ⊕ Unit) × Sg) × Nat × Nat)) (Y : Option Mu) : Prop := (∃ t' m' k, X = some ((.inr (), t'), 0, 0) ∧ Y = some m' ∧ CI G L r N0 n b c x y t1 m1 t' m' k ∧ 2 ≤ k) ∨ (∃ e t' K P m', X = some ((.inl e, t'), 1, 8) ∧ THI N0 t1 (m1.1 5) e t' 1 8 K P ∧ Y = some m' ∧ MFI m1 m' K P)
theorem choices_l {G : CG} {L : Ly} {r N0 n b c : Nat} {x y : Int} {t1 : Sg} {m1 : Mu} (hr : r < zN t1) (hL : L.1 3 < zN t1 ∧ L.1 100 < zN t1 ∧ L.1 101 < zN t1) (hN : N0 ≤ zN t1 ∧ N0 ≤ r) (hG : G0 G ≤ zN t1) (hn : n < 8) : ∀ (fuel f2 : Nat) (t : Sg) (m mx : Mu) (k : Nat), CI G L r N0 n b c x y t1 m1 t m k → m.1 4 ≠ 0 → m5_next m = some mx → 600 - m.1 5 < (fuel : Int) → 600 - m.1 5 < (f2 : Int) → CHO G L r N0 n b c x y t1 m1 (XL G r b fuel t) (m5_readChoices_l2 n f2 1 mx) := by
  intro fuel
  induction fuel with
  | zero =>
    intro f2 t m mx k hCI h4 hmx hf hf2
    have := hCI.1.1.2.2.2.1.2.2
    have := hCI.1.1.2.2.1.2.2.2
    omega
  | succ fuel ih =>
    intro f2 t m mx k hCI h4 hmx hf hf2
    obtain ⟨hR, hc, hfr, h287⟩ := id hCI.1
    have hts := hR.2.2.2.1.2.2
    have htk := hR.2.2.1.2.2.2
    obtain ⟨f2, rfl⟩ : ∃ g, f2 = g + 1 := ⟨f2 - 1, by omega⟩
    obtain ⟨f2, rfl⟩ : ∃ g, f2 = g + 1 := ⟨f2 - 1, by omega⟩
    have hFt : FRo N0 t1 t := FRo_7 hN.1 hN.2 hfr
    have hNt : N0 ≤ zN t ∧ N0 ≤ r := ⟨by have := hfr.1.1; omega, hN.2⟩
    have hw5 : m1.1 5 ≤ m.1 5 := hCI.2.1.2.1
    obtain ⟨m', n1, n2, n3⟩ := next8 hR h4 (by omega)
    rw [hmx] at n1
    cases n1
    have w1 : w32 (1 : Int) = 1 := rfl
    rcases n3 with ⟨t2, p1, p2⟩ | ⟨e, t2, p1, p2, p3, p4, p5, p6⟩
    · have CI2 := CI_n hCI hr p2
      have g6 := p2.2.2.2.2.2.1
      obtain ⟨R2, hc2, fr2, z287⟩ := id CI2.1
      have hFt2 : FRo N0 t1 t2 := FRo_7 hN.1 hN.2 fr2
      have hNt2 : N0 ≤ zN t2 ∧ N0 ≤ r := ⟨by have := fr2.1.1; omega, hN.2⟩
      have hw52 : m1.1 5 ≤ mx.1 5 := CI2.2.1.2.1
      obtain ⟨k1, k2⟩ := tk_w R2.2.2.1
      have h8 : mx.1 8 = 0 := R2.2.2.2.2.2
      rcases want_kind R2 (K := 1) (by decide) with ⟨z, e1⟩ | ⟨z, e, t3, e1, e2⟩
      · have hnm : NM (zI t2 r 283) (mx.1 6) := by
          rcases R2.2.2.1.2.2.2.2.2 with q | ⟨-, q | q | q | q⟩
          · have := q.2.1; omega
          · exact q.2.2
          · have := q.2.1; omega
          · have := q.2.1; omega
          · have := q.2.1; omega
        obtain ⟨⟨q1, q2, q3, q4, q5⟩, a1, a2, a3, a4, a5, a6, a7, a8, a9⟩ := id CI2.2.2.2.1
        obtain ⟨b1, b2, b3⟩ := CI2.2.2.2.2.1
        have hk6 := CI2.2.2.2.2.2.1
        have hGb : G0 G ≤ b := by omega
        have hGc : G0 G ≤ c := by omega
        obtain ⟨v, v1, v2, v3⟩ := lk_choice (G := G) (t := t2) (m := mx) (b := b) (c := c) (i := n) (n := k) a1 a4 hk6 a7 a8 a9 (by omega) b2 CI2.2.2.2.2.2.2 hnm
        have eC : f7_choices_l0 G (some r) (some b) (fuel + 1) t = if w32 v < 0 then (gfI t2 10 363 (some b)).bind fun x12 => if w32 x12 = 6 then some ((.inr (.inr (.inl t2))), 0, 0) else (gfR t2 10 362 (some b)).bind fun x13 => (gfI t2 10 363 (some b)).bind fun x14 => (pfI G.2.2.2.1 t2 10 363 (some b) (x14 + 1)).bind fun u15 => (gfI u15 8 283 (some r)).bind fun x16 => (asI G.2.2.2.1 u15 4 x13 x14 x16).bind fun u17 => (gfI u17 10 363 (some b)).bind fun x18 => (pfI G.2.2.2.1 u17 10 365 (some b) (x18 - 1)).bind fun u19 => (ztg u19 8 (some r)).bind fun b20 => bdU (f7_next G (some b20) u19) fun q21 => tel q21.1 (fun e22 => some (.inl (e22, q21.2), 0, 0)) fun x23 => (ztg q21.2 8 (some r)).bind fun b24 => (f7_isSign G (some b24) 44 q21.2).bind fun x25 => if (w32 x25) = 0 then some ((.inr (.inr (.inr q21.2))), 0, 0) else f7_choices_l0 G (some r) (some b) fuel q21.2 else some ((.inr (.inl t2)), 0, 0) := by
          rw [f7_choices_l0.eq_2, ztg_e hR.1.1.1, Option.bind_some, p1, te_ok]
          dsimp only
          rw [ztg_e R2.1.1.1, Option.bind_some, e1, te_ok]
          dsimp only
          rw [gfI_e R2.1.1.1, Option.bind_some, ztg_e a1, Option.bind_some, v1, Option.bind_some]
        have eM : m5_readChoices_l2 n (f2 + 1 + 1) 1 mx = if w32 v < 0 then (mald mx 15 112 n).bind fun x2 => if (w32 x2) = 6 then (m5_wrong 6 mx).bind fun u14 => m5_readChoices_l2 n (f2 + 1) 1 u14 else (mald mx 15 112 n).bind fun x3 => (mast mx 16 672 ((6 * (n : Int)) + x3) (mx.1 6)).bind fun u4 => (mald u4 15 112 n).bind fun x5 => (mast u4 15 112 n (x5 + 1)).bind fun u6 => (m5_next u6).bind fun u7 => (m5_isSign 7 u7).bind fun x8 => if (w32 x8) = 0 then (mald u7 15 112 n).bind fun x9 => if (w32 x9) = 1 then (m5_cannot u7).bind fun u10 => m5_readChoices_l2 n (f2 + 1) x8 u10 else m5_readChoices_l2 n (f2 + 1) x8 u7 else (m5_next u7).bind fun u12 => m5_readChoices_l2 n (f2 + 1) x8 u12 else (m5_wrong 3 mx).bind fun u16 => m5_readChoices_l2 n (f2 + 1) 1 u16 := by
          rw [m5_readChoices_l2.eq_2, if_neg (show ¬ w32 1 = 0 by rw [w1]; decide), h8, if_pos (show w32 0 = 0 by rfl), k1.2.2.1, if_pos z, v2, Option.bind_some]
        have endF : ∀ {g : Nat} {v : Int} {q : Mu} {K P : Int}, MF mx q K P → (1 ≤ K ∧ K ≤ 6) → m5_readChoices_l2 n (g + 1) v q = some q := fun {g v q K P} hq hK => by
          rw [m5_readChoices_l2.eq_2]
          by_cases zv : w32 v = 0
          · rw [if_pos zv]
          · rw [if_neg zv, hq.1, w32_id (x := K) (by omega) (by omega), if_neg (by omega)]
        have MIx : MI m1 mx := CI2.2.2.1
        unfold XL
        rw [eC, eM]
        clear eC eM
        by_cases hv : w32 v < 0
        · rw [if_pos hv, if_pos hv, gfI_v a1 a4, Option.bind_some, mald_e n rfl (by omega) (by omega), Option.bind_some, b2, w32_n (show k < 2147483648 by omega)]
          by_cases h6 : k = 6
          · rw [if_pos (show (k : Int) = 6 by omega), if_pos (show (k : Int) = 6 by omega)]
            right
            obtain ⟨t', e, hth⟩ := c_throw (α := Unit) R2 6
            obtain ⟨m', em, hm, -⟩ := m_wrong h8 6
            refine ⟨zN t2, t', 6, mx.1 5, m', ?_, THI_tr hFt2 hNt2 hw52 hth (by omega) (by omega), by rw [em, Option.bind_some, endF hm (by decide)], MFI_tr MIx (MFI_B (Or.inl hm))⟩
            rw [bdU_z]; exact e
          · rw [if_neg (show ¬ (k : Int) = 6 by omega), if_neg (show ¬ (k : Int) = 6 by omega), gfR_v a1 a7, Option.bind_some, Option.bind_some, pfI_e a1 hGb, Option.bind_some]
            have T3r : zT (zsI t2 b 363 ((k : Int) + 1)) r = 8 := R2.1.1.1
            have I3r : zI (zsI t2 b 363 ((k : Int) + 1)) r 283 = zI t2 r 283 := by rw [zsI_I, if_neg (fun e => by have := e.1; omega)]
            rw [gfI_v T3r I3r, Option.bind_some, asI_e k (show zT (zsI t2 b 363 ((k : Int) + 1)) c = 100 + 4 from a8) hGc rfl (by show k < zL t2 c; omega) (by show zL t2 c ≤ _; omega), Option.bind_some]
            have T4b : zT (zsA (zsI t2 b 363 ((k : Int) + 1)) c k (zI t2 r 283)) b = 10 := a1
            have I4b : zI (zsA (zsI t2 b 363 ((k : Int) + 1)) c k (zI t2 r 283)) b 363 = (k : Int) + 1 := by
              show zI (zsI t2 b 363 ((k : Int) + 1)) b 363 = _
              rw [zsI_I, if_pos ⟨rfl, rfl⟩]
            rw [gfI_v T4b I4b, Option.bind_some, pfI_e T4b hGb, Option.bind_some]
            have CI3 := CI_a CI2 hr hL hn (by omega) hnm
            rw [Option.bind_some, mast_e (6 * n + k) (by omega) (by omega) (by omega), Option.bind_some]
            have e15 : mald (ma mx 16 (6 * n + k) (mx.1 6)) 15 112 n = some (k : Int) := by rw [mald_e n rfl (by omega) (by omega), ma_o (by decide), b2]
            rw [e15, Option.bind_some, mast_e n rfl (by omega) (by omega), Option.bind_some]
            obtain ⟨t3, ht3⟩ : ∃ t3, t3 = zsI (zsA (zsI t2 b 363 ((k : Int) + 1)) c k (zI t2 r 283)) b 365 ((k : Int) + 1 - 1) := ⟨_, rfl⟩
            obtain ⟨m3, hm3⟩ : ∃ m3, m3 = ma (ma mx 16 (6 * n + k) (mx.1 6)) 15 n ((k : Int) + 1) := ⟨_, rfl⟩
            rw [← ht3, ← hm3] at CI3
            rw [← ht3, ← hm3]
            have e31 : m3.1 = mx.1 := by rw [hm3]; rfl
            obtain ⟨R3, hc3, fr3, y287⟩ := id CI3.1
            obtain ⟨m4, y1, y2, y3⟩ := next8 R3 (by rw [e31]; omega) (by omega)
            rw [y1, Option.bind_some, ztg_e R3.1.1.1, Option.bind_some]
            have hFt3 : FRo N0 t1 t3 := FRo_7 hN.1 hN.2 fr3
            have hNt3 : N0 ≤ zN t3 ∧ N0 ≤ r := ⟨by have := fr3.1.1; omega, hN.2⟩
            have hw53 : m1.1 5 ≤ m3.1 5 := CI3.2.1.2.1
            rcases y3 with ⟨t4, s1, s2⟩ | ⟨e, t4, s1, s2, s3, s4, s5, s6⟩
            · rw [s1, te_ok]
              dsimp only
              have CI4 := CI_n CI3 hr s2
              have g64 := s2.2.2.2.2.2.1
              obtain ⟨R4, hc4, fr4, x287⟩ := id CI4.1
              have hw54 : m1.1 5 ≤ m4.1 5 := CI4.2.1.2.1
              rw [ztg_e R4.1.1.1, Option.bind_some, c_isS R4 (j := 7) (by decide) (l := 44) rfl, Option.bind_some, w32_b2i, m_s7 R4 7 (by decide), Option.bind_some, w32_b2i]
              by_cases hcm : m4.1 4 = 3 ∧ m4.1 7 = 7
              · have hcm' : m4.1 4 = 3 ∧ m4.1 7 = ((7 : Nat) : Int) := hcm
                rw [decide_eq_true hcm, decide_eq_true hcm', if_neg (by decide), if_neg (by decide)]
                obtain ⟨m5, r1, r2, r3⟩ := next8 R4 (by omega) (by omega)
                rw [r1, Option.bind_some]
                exact ih (f2 + 1) t4 m4 m5 (k + 1) CI4 (by omega) r1 (by rw [e31] at g64; omega) (by rw [e31] at g64; omega)
              · have hcm' : ¬ (m4.1 4 = 3 ∧ m4.1 7 = ((7 : Nat) : Int)) := hcm
                rw [decide_eq_false hcm, decide_eq_false hcm', if_pos (by rfl), if_pos (by rfl), bdU_z]
                obtain ⟨⟨-, -, -, -, -⟩, A1, -, -, A4, -⟩ := id CI4.2.2.2.1
                have B2 := CI4.2.2.2.2.1.2.1
                have e415 : mald m4 15 112 n = some ((k + 1 : Nat) : Int) := by rw [mald_e n rfl (by omega) (by omega), B2]
                rw [e415, Option.bind_some, w32_n (show k + 1 < 2147483648 by omega)]
                show CHO G L r N0 n b c x y t1 m1 ((gfI t4 10 363 (some b)).bind fun x10 => if 2 ≤ (w32 x10) then some ((.inr (), t4), 0, 0) else bdU (zNew t4 9 8) fun q11 => (gfI q11.2 8 282 (some r)).bind fun x12 => (f8_init G (some q11.1) 2 x12 q11.2).bind fun u13 => xth q11.1 u13) _
                rw [gfI_v A1 A4, Option.bind_some, w32_n (show k + 1 < 2147483648 by omega)]
                have endB : ∀ q : Mu, m5_readChoices_l2 n (f2 + 1) (b2i false) q = some q := fun q => by
                  rw [m5_readChoices_l2.eq_2, if_pos (by rfl)]
                by_cases h1 : k = 0
                · rw [if_neg (by omega), if_pos (by omega)]
                  right
                  have K4 := tk_w R4.2.2.1
                  obtain ⟨t', e, hth⟩ := c_throw (α := Unit) R4 2
                  obtain ⟨m', em, hm⟩ := m_cannot R4.2.2.2.2.2 K4.1.2.2.1
                  rw [if_neg (show ¬ m4.1 4 = 5 by have := K4.1.2.1; omega)] at hm
                  rw [em, Option.bind_some, endB]
                  exact ⟨_, t', 2, m4.1 5, m', e, THI_tr (FRo_7 hN.1 hN.2 fr4) ⟨by have := fr4.1.1; omega, hN.2⟩ hw54 hth (by omega) (by omega), rfl, MFI_tr CI4.2.2.1 (MFI_B (Or.inl hm))⟩
                · rw [if_pos (by omega), if_neg (by omega), endB]
                  exact Or.inl ⟨t4, m4, k + 1, rfl, rfl, CI4, by omega⟩
            · right
              have hle := TH_K s2
              rw [s1, xl_thr]
              have MI3 : MI m1 m4 := MI_tr CI3.2.2.1 (MI_7 y2)
              rw [m_isSq 7 (by decide) (by rw [s3]; decide) (fun q => by omega), Option.bind_some, decide_eq_false (by omega), if_pos (by rfl)]
              have B2 : m4.2 15 n = ((k + 1 : Nat) : Int) := by rw [s5]; exact CI3.2.2.2.2.1.2.1
              have e415 : mald m4 15 112 n = some ((k + 1 : Nat) : Int) := by rw [mald_e n rfl (by omega) (by omega), B2]
              rw [e415, Option.bind_some, w32_n (show k + 1 < 2147483648 by omega)]
              have endB : ∀ q : Mu, m5_readChoices_l2 n (f2 + 1) (b2i false) q = some q := fun q => by
                rw [m5_readChoices_l2.eq_2, if_pos (by rfl)]
              have eX : xth (α := Unit) e t4 = some ((.inl e, t4), 0, 0) := by unfold xth; rw [if_pos s2.1]
              have eX2 : bdU (some ((Sum.inl (e, t4) : (Nat × Sg) ⊕ (Sg ⊕ Sg ⊕ Sg)), 0 + 1, 0 + 8)) (Sum.elim (fun e15 => xth (α := Unit) e15.1 e15.2) (Sum.elim (fun q1 => bdU (zNew q1 9 8) fun q2 => (gfI q2.2 8 282 (some r)).bind fun x3 => (f8_init G (some q2.1) 3 x3 q2.2).bind fun u4 => xth q2.1 u4) (Sum.elim (fun q5 => bdU (zNew q5 9 8) fun q6 => (gfI q6.2 8 282 (some r)).bind fun x7 => (f8_init G (some q6.1) 6 x7 q6.2).bind fun u8 => xth q6.1 u8) (fun q9 => (gfI q9 10 363 (some b)).bind fun x10 => if 2 ≤ (w32 x10) then some ((.inr (), q9), 0, 0) else bdU (zNew q9 9 8) fun q11 => (gfI q11.2 8 282 (some r)).bind fun x12 => (f8_init G (some q11.1) 2 x12 q11.2).bind fun u13 => xth q11.1 u13)))) = some ((.inl e, t4), 1, 8) := by
                rw [bdU_e]; show (xth (α := Unit) e t4).map _ = _; rw [eX]; rfl
              rw [eX2]
              have hTH := THI_tr hFt3 hNt3 hw53 s2 (c1 := 1) (n1 := 8) (by omega) (by omega)
              by_cases h1 : k = 0
              · rw [if_pos (by omega)]
                obtain ⟨m', em, hm⟩ := m_cannot s4 (by rw [s3]; decide)
                rw [if_pos s3] at hm
                rw [em, Option.bind_some, endB]
                exact ⟨e, t4, 1, m4.1 5, m', rfl, hTH, rfl, MFI_tr MI3 (MFI_B (Or.inl hm))⟩
              · rw [if_neg (by omega), endB]
                exact ⟨e, t4, 1, m4.1 5, m4, rfl, hTH, rfl, Or.inr ⟨rfl, s4, s3, rfl⟩, MI3⟩
        · rw [if_neg hv, if_neg hv, bdU_z]
          right
          obtain ⟨t', e, hth⟩ := c_throw (α := Unit) R2 3
          obtain ⟨m', em, hm, -⟩ := m_wrong h8 3
          exact ⟨zN t2, t', 3, mx.1 5, m', e, THI_tr hFt2 hNt2 hw52 hth (by omega) (by omega), by rw [em, Option.bind_some, endF hm (by decide)], MFI_tr MIx (MFI_B (Or.inl hm))⟩
      · right
        obtain ⟨m', em, hm⟩ := m_cannot h8 k1.2.2.1
        rw [if_neg (show ¬ mx.1 4 = 5 by omega)] at hm
        have eX : xth (α := Unit) e t3 = some ((.inl e, t3), 0, 0) := by unfold xth; rw [if_pos e2.1]
        refine ⟨e, t3, 2, mx.1 5, m', ?_, THI_tr hFt2 hNt2 hw52 e2 (by omega) (by omega), ?_, MFI_tr CI2.2.2.1 (MFI_B (Or.inl hm))⟩
        · unfold XL
          rw [f7_choices_l0.eq_2, ztg_e hR.1.1.1, Option.bind_some, p1, te_ok]
          dsimp only
          rw [ztg_e R2.1.1.1, Option.bind_some, e1]
          show ((xth (α := Unit) e t3).map _) = _
          rw [eX]; rfl
        · rw [m5_readChoices_l2.eq_2, if_neg (show ¬ w32 1 = 0 by rw [w1]; decide), h8, if_pos (show w32 0 = 0 by rfl), k1.2.2.1, if_neg z, em, Option.bind_some, m5_readChoices_l2.eq_2, if_neg (show ¬ w32 1 = 0 by rw [w1]; decide), hm.1, if_neg (by decide)]
    · right
      obtain ⟨m', em, hm⟩ := m_cannot p4 (by rw [p3]; decide)
      rw [if_pos p3] at hm
      have eX : xth (α := Unit) e t2 = some ((.inl e, t2), 0, 0) := by unfold xth; rw [if_pos p2.1]
      refine ⟨e, t2, 1, mx.1 5, m', ?_, THI_tr hFt hNt hw5 p2 (by omega) (by omega), ?_, MFI_tr (MI_tr hCI.2.2.1 (MI_7 n2)) (MFI_B (Or.inl hm))⟩
      · unfold XL
        rw [f7_choices_l0.eq_2, ztg_e hR.1.1.1, Option.bind_some, p1]
        show ((xth (α := Unit) e t2).map _) = _
        rw [eX]; rfl
      · rw [m5_readChoices_l2.eq_2, if_neg (show ¬ w32 1 = 0 by rw [w1]; decide), p4, if_pos (show w32 0 = 0 by rfl), p3, if_neg (by decide), em, Option.bind_some, m5_readChoices_l2.eq_2, if_neg (show ¬ w32 1 = 0 by rw [w1]; decide), hm.1, if_neg (by decide)]

theorem w64_iff {a b : Int} : w64 a = w64 b ↔ ∃ k : Int, a = b + 18446744073709551616 * k := by
  unfold w64
  constructor
  · intro h; exact ⟨(a - b) / 18446744073709551616, by omega⟩
  · rintro ⟨k, rfl⟩; omega
theorem w64_add {a b c : Int} (h : w64 a = w64 b) : w64 (a + c) = w64 (b + c) := by
  obtain ⟨k, rfl⟩ := w64_iff.mp h
  exact w64_iff.mpr ⟨k, by omega⟩
theorem w64_mul {a b c : Int} (h : w64 a = w64 b) : w64 (a * c) = w64 (b * c) := by
  obtain ⟨k, rfl⟩ := w64_iff.mp h
  exact w64_iff.mpr ⟨k * c, by rw [Int.add_mul, Int.mul_assoc]⟩
theorem w64_n {a : Nat} (h : a < 9223372036854775808) : w64 (a : Int) = a := by unfold w64; omega
theorem near_e (a d : Int) : f0_rounded a d = m5_nearest a d := by
  have h1 : ¬ w32 1 = 0 := by decide
  have h0 : w32 0 = 0 := by decide
  unfold f0_rounded m5_nearest f0_rounded_b43 f0_rounded_b47 f0_rounded_b48 m5_nearest_b39
  simp only [if_neg h1, if_pos h0]
theorem near_cg {a b d : Int} (h : w64 a = w64 b) : m5_nearest a d = m5_nearest b d := by
  unfold m5_nearest div64 rem64
  rw [h]
theorem near_s {a d : Int} (h : w64 d ≠ 0) : ∃ x, m5_nearest a d = some x := by
  unfold m5_nearest m5_nearest_b39
  rw [if_neg h, if_neg h]
  split
  · exact ⟨_, rfl⟩
  · split
    · split
      · exact ⟨_, rfl⟩
      · exact ⟨_, rfl⟩
    · exact ⟨_, rfl⟩
theorem k3 {j : Nat} (h : j ≤ 3) : 1 ≤ 1000 ^ j ∧ 1000 ^ j ≤ 1000000000 := by
  rcases (show j = 0 ∨ j = 1 ∨ j = 2 ∨ j = 3 by omega) with rfl | rfl | rfl | rfl <;> decide
theorem o_price {G : CG} {L : Ly} {u : Sg} {m : Mu} (h : RC G L u m) (e k : Int) (he : w32 e = e) (hk : w32 k = k) : sim (f0_price G (some (L.1 3)) e k u) (m5_price e k m) (aft G L) := by
  unfold f0_price m5_price
  refine sim_L (ztg_e (rT3 h.1)) ?_
  by_cases hg : (1 ≤ e ∧ e ≤ m.1 71) ∧ 0 ≤ k ∧ k ≤ 9999
  · obtain ⟨n, rfl⟩ : ∃ n : Nat, e = n := ⟨e.toNat, by omega⟩
    obtain ⟨w, K, u', m', w1, w12, w2, w3, hM, e1, s1, hA', hS', e2, f1, f2, f3⟩ := look_ok h (e := n) (day := k) (by omega) (by omega) hk hg.2
    have n32 := h.2.2.2.2.2.1.2.1
    refine sim_L e1 (sim_posL (show 0 ≤ w32 0 by decide) (sim_R (noEvent_ok h he hk hg.1 hg.2) (sim_posR (by decide) ?_)))
    refine sim_mald n rfl (by omega) (by omega) ?_
    rw [w3]
    have h' := RC_scr h s1
    have hR' := h'.1
    generalize hW : slc m w = W at *
    generalize hdg : dgt W (vvE m n k) = dg at *
    have hd2 : ∀ f, f < nF W → -1 ≤ dg f ∧ dg f < nS W f := fun f hf => by rw [← hdg]; exact dgt_bd hM _ hf
    have hM1 := hM.1
    have e27 : W 27 0 = (nP W : Int) := by unfold nP; omega
    have nP24 : nP W ≤ 24 := by unfold nP; omega
    obtain ⟨h0, -⟩ := fst_in (fun f hf => (nS_e hM hf).2.1) (fun f hf => (hd2 f hf).2)
    have htm := hM.2.2.2.2.2.1.2.2.2.2.2
    obtain ⟨⟨a1, a2⟩, -, -, -, -, ⟨l5, el5, c1, c2, c3⟩, -⟩ := id hA'
    refine sim_R e2 (sim_L (gfR_v (rT3 hR') (rR3_14 hR')) (sim_L (gfR_v (rT114 hR') hS'.1) (sim_L (gfR_v a2 c1) ?_)))
    have fin : ∀ {a b : Sg ⊕ Sg} {t : Mu}, mfr [] [59, 60, 61, 77] m' t → mfr MS0 MA0 m t := fun hh => mfr_tr (mfr_up f1 (by simp) (by decide)) (mfr_up hh (by simp) (by decide))
    have key := sim_loop (fun q (s : Int × Int × Nat × Sg) => f0_price_l34 G (some (L.1 3)) (some l5) q s.1 s.2.1 (s.2.2.1 : Int) s.2.2.2) (fun q (t : Int × Int × Nat × Mu) => m5_price_l39 w q t.1 t.2.1 (t.2.2.1 : Int) t.2.2.2) (fun s _ => nP W - s.2.2.1)
      (fun s t => w64 s.1 = w64 t.1 ∧ s.2.1 = t.2.1 ∧ (∃ j, s.2.1 = ((1000 ^ j : Nat) : Int) ∧ j ≤ tmB W s.2.2.1) ∧ s.2.2.1 = t.2.2.1 ∧ s.2.2.1 ≤ nP W ∧ scr L u' s.2.2.2 ∧ WS L s.2.2.2 W (L.1 (300 + w)) dg K ∧ mfr [] [59, 60, 61, 77] m' t.2.2.2)
      (fun a b => ∃ ua mb, scr L u' ua ∧ mfr [] [59, 60, 61, 77] m' mb ∧ ((∃ x, a = .inl (x, ua) ∧ b = .inl (x, mb)) ∨ (a = .inr (.inl ua) ∧ b = .inr (.inl mb)) ∨ ∃ x y z, a = .inr (.inr (x, z, ua)) ∧ b = .inr (.inr (y, z, mb)) ∧ w64 x = w64 y ∧ w64 z ≠ 0)) (by
      rintro q q' ⟨A, D, i, t⟩ ⟨B, D', i', t'⟩ ⟨g1, g2, ⟨j, g3, g4⟩, g5, g6, g7, g8, g9⟩ ih
      simp only at g1 g2 g3 g4 g5 g6 g7 g8 g9
      subst g2 g5
      show sim (f0_price_l34 G (some (L.1 3)) (some l5) (q + 1) A D (i : Int) t) (m5_price_l39 w (q' + 1) B D (i : Int) t') _
      unfold f0_price_l34 m5_price_l39
      have ht := RC_scr h' g7
      have hRt := ht.1
      have hAt := WA_k (frz_scr g7) hA'
      have fz := frz_scr g7
      have c2' := LF_k fz c2
      have st' : slc t' w = W := by rw [← f2]; exact slc_of (fun j q1 q2 => g9.2 j (by simp; omega))
      have tm3 := htm i g6
      obtain ⟨d1, d2⟩ := k3 (j := j) (by omega)
      refine sim_L (ztg_e (lf_tag c2')) (sim_L (lf_size c2') (sim_R (m_sl (w := w) (k := 27) (j := 0) (by decide) (by show (w : Int) = ((1 * w + 0 : Nat) : Int); omega) (by show 1 * w + 0 < 14; omega) (by omega)) ?_))
      rw [st', e27, w32_n (by omega), w32_n (by omega)]
      refine sim_ite Iff.rfl (fun hc => sim_some ⟨t, t', g7, g9, Or.inr (Or.inr ⟨A, B, D, rfl, rfl, g1, ?_⟩)⟩) (fun hc => ?_)
      · rw [g3, w64_n (by omega)]; omega
      have hi : i < nP W := by omega
      obtain ⟨y1, y2, y3, y4, y5⟩ := c3 i hi
      obtain ⟨p1, p2, p3, p4, p5⟩ := hM.2.2.2.2.1 i hi
      obtain ⟨z0, z1, z2, z3, z4, -⟩ := fz.2 _ y1
      have y2' : zT t (el5 i) = 18 := z1.trans y2
      have y3' : zI t (el5 i) 680 = W 28 i - 15 := by rw [z3]; omega
      have y4' : zI t (el5 i) 681 = W 29 i := by rw [z3]; exact y4
      have w29 : w32 (W 29 i) = W 29 i := w32_id (by split at p3 <;> omega) (by omega)
      have p3' : 0 ≤ W 29 i := by split at p3 <;> omega
      obtain ⟨V, hV⟩ : ∃ V : Nat, W 29 i = V := ⟨(W 29 i).toNat, by omega⟩
      obtain ⟨x, t2', em, fm, hx⟩ := m_rowHolds st' (by omega) hM (fun f hf => by rw [g9.2 76 (by simp)]; exact f3 f hf) hd2 hi
      have fr' : mfr [] [59, 60, 61, 77] m' t2' := mfr_tr g9 fm
      have st2 : slc t2' w = W := by rw [← st']; exact slc_of (fun j q1 q2 => fm.2 j (by simp; omega))
      refine sim_L (ztg_e (lf_tag c2')) (sim_L (lf_get c2' i rfl hi) (sim_L (zcast_1 y2') (sim_R em ?_)))
      -- the row's work, its truth known
      have row : ∀ (t2 : Sg), scr L u' t2 → WS L t2 W (L.1 (300 + w)) dg K → zT t2 (el5 i) = 18 → zI t2 (el5 i) 680 = W 28 i - 15 → zI t2 (el5 i) 681 = W 29 i → (x = 0 ∨ x = 1 ∨ x = 2) → (W 28 i ≠ 16 → W 28 i ≠ 17 → x = 1) →
          sim (f0_price_b84 G (f0_price_l34 G (some (L.1 3)) (some l5) q) (some (L.1 3)) (some l5) A D (i : Int) (some (el5 i)) x t2)
            (if (w32 (x, t2').1) = 2 then some (.inl ((i : Int), (x, t2').2)) else if (w32 (x, t2').1) = 0 then m5_price_l39 w q' B D ((i : Int) + 1) (x, t2').2 else
          (mald (x, t2').2 29 336 ((24 * (w : Int)) + i)).bind fun x3 =>
          (mald (x, t2').2 28 336 ((24 * (w : Int)) + i)).bind fun x4 =>
          if (w32 x4) = 15 then
            m5_price_b122 (m5_price_l39 w q') w B D i (w32 x3) (x, t2').2
          else
            (mald (x, t2').2 28 336 ((24 * (w : Int)) + i)).bind fun x5 =>
            if (w32 x5) = 17 then
              m5_price_b122 (m5_price_l39 w q') w B D i (w32 x3) (x, t2').2
            else
              (mald (x, t2').2 28 336 ((24 * (w : Int)) + i)).bind fun x6 =>
              if (w32 x6) = 16 then
                m5_price_l39 w q' (B * (w32 x3)) (D * 1000) ((i : Int) + 1) (x, t2').2
              else
                (mald (x, t2').2 28 336 ((24 * (w : Int)) + i)).bind fun x7 =>
                if (w32 x7) = 18 then
                  (m5_nearest B ((w32 x3) * D)).bind fun x9 =>
                  if (w64 (x9 * (w32 x3))) ≤ 99999999 then
                    m5_price_l39 w q' (x9 * (w32 x3)) 1 ((i : Int) + 1) (x, t2').2
                  else
                    some (.inr (.inl (x, t2').2))
                else
                  if (w64 ((w32 x3) * D)) ≤ (w64 B) then
                    m5_price_l39 w q' B D ((i : Int) + 1) (x, t2').2
                  else
                    m5_price_l39 w q' ((w32 x3) * D) D ((i : Int) + 1) (x, t2').2)
            (fun a b => ∃ ua mb, scr L u' ua ∧ mfr [] [59, 60, 61, 77] m' mb ∧ ((∃ x, a = .inl (x, ua) ∧ b = .inl (x, mb)) ∨ (a = .inr (.inl ua) ∧ b = .inr (.inl mb)) ∨ ∃ x y z, a = .inr (.inr (x, z, ua)) ∧ b = .inr (.inr (y, z, mb)) ∧ w64 x = w64 y ∧ w64 z ≠ 0)) := by
        intro t2 q7 q8 q2 q3 q4 x3 xk
        show sim _ (if w32 x = 2 then _ else _) _
        unfold f0_price_b84
        have wx : w32 x = x := by rcases x3 with rfl | rfl | rfl <;> decide
        rw [wx]
        have r28 : mald t2' 28 336 (24 * (w : Int) + i) = some (W 28 i) := by
          rw [← st2]; exact m_sl (w := w) (k := 28) (j := i) (by show i < 24; omega) (by show (24 : Int) * w + i = ((24 * w + i : Nat) : Int); omega) (by show 24 * w + i < 336; omega) (by omega)
        have r29 : mald t2' 29 336 (24 * (w : Int) + i) = some (W 29 i) := by
          rw [← st2]; exact m_sl (w := w) (k := 29) (j := i) (by show i < 24; omega) (by show (24 : Int) * w + i = ((24 * w + i : Nat) : Int); omega) (by show 24 * w + i < 336; omega) (by omega)
        have w28 : w32 (W 28 i) = W 28 i := w32_id (by omega) (by omega)
        have w68 : w32 (W 28 i - 15) = W 28 i - 15 := w32_id (by omega) (by omega)
        -- the next row
        have go : ∀ A' B' D', w64 A' = w64 B' → (∃ j, D' = ((1000 ^ j : Nat) : Int) ∧ j ≤ tmB W (i + 1)) → sim (f0_price_l34 G (some (L.1 3)) (some l5) q A' D' ((i : Int) + 1) t2) (m5_price_l39 w q' B' D' ((i : Int) + 1) t2') (fun a b => ∃ ua mb, scr L u' ua ∧ mfr [] [59, 60, 61, 77] m' mb ∧ ((∃ x, a = .inl (x, ua) ∧ b = .inl (x, mb)) ∨ (a = .inr (.inl ua) ∧ b = .inr (.inl mb)) ∨ ∃ x y z, a = .inr (.inr (x, z, ua)) ∧ b = .inr (.inr (y, z, mb)) ∧ w64 x = w64 y ∧ w64 z ≠ 0)) :=
          fun A' B' D' hA' hD' => ih (A', D', i + 1, t2) (B', D', i + 1, t2') ⟨hA', rfl, hD', rfl, by show i + 1 ≤ nP W; omega, q7, q8, fr'⟩ (by show nP W - (i + 1) < nP W - i; omega)
        have tmS : W 28 i ≠ 18 → tmB W i ≤ tmB W (i + 1) := by
          intro hz
          simp only [tmB]
          rw [if_neg hz]
          split <;> omega
        have dD : W 28 i ≠ 18 → ∃ j, D = ((1000 ^ j : Nat) : Int) ∧ j ≤ tmB W (i + 1) := fun hz => ⟨j, g3, by have := tmS hz; omega⟩
        refine sim_ite Iff.rfl (fun _ => sim_some ⟨t2, t2', q7, fr', Or.inl ⟨_, rfl, rfl⟩⟩) (fun hx2 => ?_)
        refine sim_L (gfI_v q2 q3) ?_
        rw [w68]
        -- the class asks 3, 4, 1
        by_cases k18 : W 28 i = 18
        · have hx1 : x = 1 := xk (by omega) (by omega)
          subst hx1
          rw [k18] at p3
          have hV1 : 1 ≤ W 29 i := by simpa using p3
          refine sim_posL (by omega) (sim_negR (by decide) ?_)
          refine sim_R r29 (sim_R r28 ?_)
          rw [w28, w29]
          refine sim_negR (by omega) (sim_R r28 (sim_negR (by rw [w28]; omega) (sim_R r28 (sim_negR (by rw [w28]; omega) (sim_R r28 (sim_posR (by rw [w28]; exact k18) ?_))))))
          refine sim_L (gfI_v q2 q4) ?_
          rw [w29, near_e, near_cg g1]
          have hne : w64 (W 29 i * D) ≠ 0 := by
            have hle : V * 1000 ^ j ≤ 9999999 * 1000000000 := Nat.mul_le_mul (by omega) d2
            have hpos : 1 ≤ V * 1000 ^ j := Nat.mul_pos (by omega) d1
            rw [hV, g3, ← Int.natCast_mul, w64_n (by omega)]
            omega
          obtain ⟨y, ey⟩ := near_s (a := B) hne
          refine sim_L ey (sim_R ey (sim_L (gfI_v q2 q4) ?_))
          rw [w29]
          refine sim_ite Iff.rfl (fun _ => go _ _ _ rfl ⟨0, rfl, Nat.zero_le _⟩) (fun _ => sim_some ⟨t2, t2', q7, fr', Or.inr (Or.inl ⟨rfl, rfl⟩)⟩)
        refine sim_negL (by omega) (sim_L (gfI_v q2 q3) ?_)
        rw [w68]
        by_cases k19 : W 28 i = 19
        · have hx1 : x = 1 := xk (by omega) (by omega)
          subst hx1
          refine sim_posL (by omega) (sim_negR (by decide) ?_)
          refine sim_R r29 (sim_R r28 ?_)
          rw [w28, w29]
          refine sim_negR (by omega) (sim_R r28 (sim_negR (by rw [w28]; omega) (sim_R r28 (sim_negR (by rw [w28]; omega) (sim_R r28 (sim_negR (by rw [w28]; omega) ?_))))))
          refine sim_L (gfI_v q2 q4) ?_
          rw [w29]
          unfold mx64
          rw [g1]
          refine sim_iteR (fun hle => ?_) (fun hle => ?_)
          · by_cases hlt : w64 (W 29 i * D) < w64 B
            · rw [if_pos hlt]; exact go _ _ _ g1 (dD k18)
            · rw [if_neg hlt]; exact go _ _ _ (by omega) (dD k18)
          · rw [if_neg (by omega)]; exact go _ _ _ rfl (dD k18)
        refine sim_negL (by omega) (sim_L (gfI_v q2 q3) ?_)
        rw [w68]
        by_cases k16 : W 28 i = 16
        · refine sim_posL (by omega) ?_
          refine sim_iteL (fun hx1 => ?_) (fun hx1 => ?_)
          · rw [hx1]
            refine sim_negR (by decide) (sim_R r29 (sim_R r28 ?_))
            rw [w28, w29]
            refine sim_negR (by omega) (sim_R r28 (sim_negR (by rw [w28]; omega) (sim_R r28 (sim_posR (by rw [w28]; exact k16) ?_))))
            refine sim_L (gfI_v q2 q4) ?_
            rw [w29]
            refine go _ _ _ (w64_mul g1) ⟨j + 1, ?_, ?_⟩
            · rw [g3, Nat.pow_succ, Int.natCast_mul]; rfl
            · simp only [tmB]; rw [if_neg k18, if_pos k16]; omega
          · have hx0 : x = 0 := by
              rcases x3 with q | q | q
              · exact q
              · exact absurd q hx1
              · exact absurd q hx2
            rw [hx0]
            refine sim_posR rfl ?_
            unfold f0_price_b210
            refine sim_L (gfI_v q2 q3) (sim_posL (by rw [w68]; omega) (go _ _ _ g1 (dD k18)))
        · refine sim_negL (by omega) ?_
          unfold f0_price_b210
          refine sim_L (gfI_v q2 q3) (sim_negL (by rw [w68]; omega) ?_)
          rw [wx]
          refine sim_iteL (fun hx1 => ?_) (fun hx1 => ?_)
          · rw [hx1]
            refine sim_L (gfI_v q2 q4) (sim_negR (by decide) (sim_R r29 (sim_R r28 ?_)))
            rw [w28, w29]
            have add : sim (f0_price_l34 G (some (L.1 3)) (some l5) q (A + W 29 i * D) D ((i : Int) + 1) t2) (m5_price_b122 (m5_price_l39 w q') w B D i (W 29 i) t2') _ := go _ _ _ (w64_add g1) (dD k18)
            by_cases k15 : W 28 i = 15
            · exact sim_posR k15 add
            · refine sim_negR k15 (sim_R r28 (sim_posR (by rw [w28]; omega) add))
          · have hx0 : x = 0 := by
              rcases x3 with q | q | q
              · exact q
              · exact absurd q hx1
              · exact absurd q hx2
            rw [hx0]
            exact sim_posR rfl (go _ _ _ g1 (dD k18))
      rcases y5 with ⟨y5, y6⟩ | ⟨y6, cc, y5, y7⟩
      · have hx1 : x = 1 := by
          rcases hx with ⟨-, q⟩ | ⟨q, -⟩
          · exact q
          · exact absurd y6 q
        refine sim_L (gfR_v y2' (by rw [z4]; exact y5)) (sim_posL rfl ?_)
        have := row t g7 g8 y2' y3' y4' (by omega) (fun _ _ => hx1)
        rw [hx1] at this ⊢
        exact this
      · have hne : W 30 i ≠ W 31 i := by omega
        have hsg : (W 28 i = 16 ∨ W 28 i = 17) ∧ sgO W (W 19 0) (W 30 i) (W 31 i) := by
          rcases p5 with q | q
          · exact absurd q hne
          · exact q
        have hx' : TR W dg (seg W (W 30 i) (W 31 i)) x := by
          rcases hx with ⟨q, -⟩ | ⟨-, q⟩
          · exact absurd q hne
          · exact q
        have y5' : zR t (el5 i) 682 = some cc := by rw [z4]; exact y5
        have cat := CA_k fz y7
        obtain ⟨x2, t2, ec, sc, Sc, hx2⟩ := c_truth ht hM hAt g8 hd2 hsg.2 cat
        have hxx : x2 = x := TR_u h0 hx2 hx'
        subst hxx
        have fz2 := frz_scr (scr_tr g7 sc)
        obtain ⟨-, z1', z2', z3', z4', -⟩ := fz2.2 _ y1
        refine sim_L (gfR_v y2' y5') (sim_negL (by simp) (sim_L (gfR_v (rT3 hRt) (rR3_14 hRt)) (sim_L (gfR_v y2' y5') (sim_L (ztg_e (rT114 hRt)) (sim_L ec ?_)))))
        refine row t2 (scr_tr g7 sc) Sc (z1'.trans y2) (by rw [z3']; omega) (by rw [z3']; exact y4) ?_ (fun q1 q2 => ?_)
        · rcases hx' with ⟨q, -⟩ | ⟨b, q, -⟩
          · omega
          · cases b
            · exact Or.inl q
            · exact Or.inr (Or.inl q)
        · rcases hsg.1 with q | q
          · exact absurd q q1
          · exact absurd q q2) NN NN (0, 1, 0, u') (0, 1, 0, m') ⟨rfl, rfl, ⟨0, rfl, Nat.le_refl _⟩, rfl, Nat.zero_le _, scr_rf, hS', mfr_rf⟩ (NN_gt (by show nP W - 0 < 100000; omega)) (NN_gt (by show nP W - 0 < 100000; omega))
    obtain ⟨a, b, ea, eb, ua, mb, q1, q2, q3⟩ := key
    have ea' : f0_price_l34 G (some (L.1 3)) (some l5) NN 0 1 0 u' = some a := ea
    have eb' : m5_price_l39 w NN 0 1 0 m' = some b := eb
    have hfin : RC G L ua mb := RC_msc (RC_scr h (scr_tr s1 q1)) (mfr_tr (mfr_up f1 (by simp) (by decide)) (mfr_up q2 (by simp) (by decide)))
    refine sim_L ea' (sim_R eb' ?_)
    rcases q3 with ⟨x, rfl, rfl⟩ | ⟨rfl, rfl⟩ | ⟨x, y, z, rfl, rfl, q3, q4⟩
    · exact sim_some ⟨rfl, hfin⟩
    · exact sim_some ⟨rfl, hfin⟩
    · obtain ⟨r, er⟩ := near_s (a := y) q4
      have er' : f0_rounded x z = some r := by rw [near_e, near_cg q3]; exact er
      refine sim_L er' (sim_R er ?_)
      exact sim_ite Iff.rfl (fun _ => sim_some ⟨rfl, hfin⟩) (fun _ => sim_some ⟨rfl, hfin⟩)
  · obtain ⟨x, hx, e1, e2⟩ := look_bad h he hk hg
    refine sim_L e1 (sim_R e2 (sim_negL (by show ¬ 0 ≤ w32 x; rcases hx with rfl | rfl <;> decide) (sim_negR (by rcases hx with rfl | rfl <;> decide) (sim_R e2 (sim_some ⟨rfl, h⟩)))))

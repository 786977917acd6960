/-! THE CALL price -/
/-- a condition in the way n -/
def TW (W : Wv) (ns : List Nd) (n : Nat) : Bool := tru (val0 W n) (mnO W (val0 W n)) ns
/-- its truth over all the ways that match -/
def TR (W : Wv) (dg : Nat → Int) (ns : List Nd) (x : Int) : Prop := (x = 2 ∧ (∃ n, inM W dg n ∧ TW W ns n = true) ∧ ∃ n, inM W dg n ∧ TW W ns n = false) ∨ ∃ b : Bool, x = b2i b ∧ ∀ n, inM W dg n → TW W ns n = b
theorem TR_u {W : Wv} {dg : Nat → Int} {ns : List Nd} {x y : Int} {n0 : Nat} (h0 : inM W dg n0) (hx : TR W dg ns x) (hy : TR W dg ns y) : x = y := by
  rcases hx with ⟨rfl, ⟨a, a1, a2⟩, b, b1, b2⟩ | ⟨b, rfl, hb⟩
  · rcases hy with ⟨rfl, -⟩ | ⟨c, rfl, hc⟩
    · rfl
    · have q1 := hc a a1
      have q2 := hc b b1
      rw [a2] at q1; rw [b2] at q2; rw [← q1] at q2; cases q2
  · rcases hy with ⟨rfl, ⟨a, a1, a2⟩, c, c1, c2⟩ | ⟨c, rfl, hc⟩
    · have q1 := hb a a1
      have q2 := hb c c1
      rw [a2] at q1; rw [c2] at q2; rw [← q1] at q2; cases q2
    · rw [← hb n0 h0, ← hc n0 h0]
theorem val_w {W : Wv} (hM : WM W) {n f : Nat} (hf : f < nF W) : w32 (val0 W n f) = val0 W n f := by
  have := st_bd hM hf (dig W n f) (dig_lt (fun f hf => (nS_e hM hf).2.1) hf)
  exact w32_id (by unfold val0; omega) (by unfold val0; omega)
theorem c_truth {G : CG} {L : Ly} {u : Sg} {m : Mu} (h : RC G L u m) {W : Wv} {wa : Nat} {dg : Nat → Int} {K : Nat} (hM : WM W) (hA : WA G L u wa W) (hS : WS L u W wa dg K) (hd2 : ∀ f, f < nF W → -1 ≤ dg f ∧ dg f < nS W f) {i j : Int} {c : Nat} (hs : sgO W (W 19 0) i j) (hca : CA (FW L u W) G u 100 c (seg W i j)) : ∃ x u', f2_truth G (some (L.1 114)) (some c) u = some (x, u') ∧ scr L u u' ∧ WS L u' W wa dg K ∧ TR W dg (seg W i j) x := by
  have hR := h.1
  have hM1 := hM.1
  have hT := ug_T hM (f := 0) (Nat.zero_le _)
  have h40 := hM.2.2.2.2.2.2.2.1
  rw [← ug_0] at h40
  generalize hTT : TW W (seg W i j) = T
  have key := loop_ind (fun q (t : Bool × Bool × Nat × Sg) => f2_truth_l7 G (some (L.1 114)) (some c) q (b2i t.1) (b2i t.2.1) (t.2.2.1 : Int) t.2.2.2) (fun t => ug W 0 - t.2.2.1)
    (fun t => t.2.2.1 ≤ ug W 0 ∧ scr L u t.2.2.2 ∧ WS L t.2.2.2 W wa dg K ∧ (t.1 = true ↔ ∃ n, n < t.2.2.1 ∧ inM W dg n ∧ T n = true) ∧ (t.2.1 = true ↔ ∃ n, n < t.2.2.1 ∧ inM W dg n ∧ T n = false))
    (fun _ r => ∃ (b2 b3 : Bool) (u' : Sg), r = (b2i b2, b2i b3, u') ∧ scr L u u' ∧ WS L u' W wa dg K ∧ (b2 = true → ∃ n, inM W dg n ∧ T n = true) ∧ (b3 = true → ∃ n, inM W dg n ∧ T n = false) ∧ ((b2 = true ∧ b3 = true) ∨ ((b2 = false → ∀ n, inM W dg n → T n = false) ∧ (b3 = false → ∀ n, inM W dg n → T n = true)))) (by
    rintro q ⟨b2, b3, n, t⟩ ⟨g1, g2, g3, g4, g5⟩ ih
    simp only at g1 g2 g3 g4 g5
    show ok (f2_truth_l7 G (some (L.1 114)) (some c) (q + 1) (b2i b2) (b2i b3) (n : Int) t) _
    unfold f2_truth_l7
    have ht := RC_scr h g2
    have hRt := ht.1
    have hAt := WA_k (frz_scr g2) hA
    obtain ⟨⟨a1, a2⟩, -, -, -, -, -, -, ⟨n1, n2, n3⟩, -⟩ := id hAt
    refine ok_eq (gfR_v (rT114 hRt) g3.1) (ok_eq (gfI_v a2 (n2.trans h40.1)) ?_)
    rw [w32_n (by omega), w32_n (by omega)]
    have w1 : b2 = true → ∃ n, inM W dg n ∧ T n = true := fun z => by obtain ⟨n, -, q1, q2⟩ := g4.mp z; exact ⟨n, q1, q2⟩
    have w2 : b3 = true → ∃ n, inM W dg n ∧ T n = false := fun z => by obtain ⟨n, -, q1, q2⟩ := g5.mp z; exact ⟨n, q1, q2⟩
    refine ok_ite (fun hc => ok_some ⟨b2, b3, t, rfl, g2, g3, w1, w2, Or.inr ⟨fun z n' hn' => ?_, fun z n' hn' => ?_⟩⟩) (fun hc => ?_)
    · cases hh : T n'
      · rfl
      · have : b2 = true := g4.mpr ⟨n', by have := hn'.1; omega, hn', hh⟩
        rw [z] at this; cases this
    · cases hh : T n'
      · have : b3 = true := g5.mpr ⟨n', by have := hn'.1; omega, hn', hh⟩
        rw [z] at this; cases this
      · rfl
    · have hn : n < ug W 0 := by omega
      have body : ok (f2_truth_b27 G (f2_truth_l7 G (some (L.1 114)) (some c) q) (some (L.1 114)) (some c) (b2i b2) (b2i b3) (n : Int) t) (fun r => ∃ (b2 b3 : Bool) (u' : Sg), r = (b2i b2, b2i b3, u') ∧ scr L u u' ∧ WS L u' W wa dg K ∧ (b2 = true → ∃ n, inM W dg n ∧ T n = true) ∧ (b3 = true → ∃ n, inM W dg n ∧ T n = false) ∧ ((b2 = true ∧ b3 = true) ∨ ((b2 = false → ∀ n, inM W dg n → T n = false) ∧ (b3 = false → ∀ n, inM W dg n → T n = true)))) := by
        unfold f2_truth_b27
        refine ok_eq (gfI_v (rT114 hRt) g3.2.1) (ok_eq (ztg_e (rT114 hRt)) (ok_eq (c_isOne ht hM hAt g3 hS.2.2.1 (fun f _ hb => (WS_bit hS hb).2) (fun f hf => (hd2 f hf).2) hn) ?_))
        have emt : mt W (dgs dg K) n = mt W dg n := mtB_cg _ (dgs_K hS (fun f hf => (hd2 f hf).1))
        rw [w32_b2i, emt]
        refine ok_ite (fun hz => ?_) (fun hz => ?_)
        · have hmt : ¬ inM W dg n := fun z => by have := (mt_in hn).mpr z; rw [b2i_0.mp hz] at this; cases this
          refine ih (b2, b3, n + 1, t) ⟨by show n + 1 ≤ ug W 0; omega, g2, g3, ?_, ?_⟩ (by show ug W 0 - (n + 1) < ug W 0 - n; omega)
          · refine g4.trans ⟨?_, ?_⟩
            · rintro ⟨a, q1, q2, q3⟩; exact ⟨a, by show a < n + 1; omega, q2, q3⟩
            · rintro ⟨a, q1, q2, q3⟩
              have q1 : a < n + 1 := q1
              exact ⟨a, by
                have : a ≠ n := fun z => hmt (by rw [← z]; exact q2)
                omega, q2, q3⟩
          · refine g5.trans ⟨?_, ?_⟩
            · rintro ⟨a, q1, q2, q3⟩; exact ⟨a, by show a < n + 1; omega, q2, q3⟩
            · rintro ⟨a, q1, q2, q3⟩
              have q1 : a < n + 1 := q1
              exact ⟨a, by
                have : a ≠ n := fun z => hmt (by rw [← z]; exact q2)
                omega, q2, q3⟩
        · have hin : inM W dg n := (mt_in hn).mp (b2i_n1 hz)
          obtain ⟨u8, e8, s8, S8, v8⟩ := c_way ht hM hAt g3 hn
          have h8 := RC_scr ht s8
          have hR8 := h8.1
          have hA8 := WA_k (frz_scr s8) hAt
          obtain ⟨u13, e13, s13, S13, v13, m13⟩ := c_mean h8 hM hA8 S8 (v := val0 W n) (fun f hf => ⟨v8 f hf, val_w hM hf⟩)
          have h13 := RC_scr h8 s13
          have hR13 := h13.1
          have sall : scr L u u13 := scr_tr g2 (scr_tr s8 s13)
          have ca13 := CA_k (frz_scr sall) hca
          have e16 := c_tru h13 hM (v := val0 W n) (a := mnO W (val0 W n)) (nm := W 19 0) (by omega) hs ca13 (fun f hf => ⟨v13 f hf, val_w hM hf⟩) (fun k hk => ⟨m13 k (by unfold nM; omega), mnA_01 W _ _ k⟩)
          refine ok_eq (gfR_v (rT114 hRt) g3.1) (ok_eq (gfR_v (rT114 hRt) (rR114_86 hRt)) (ok_eq (gfR_v (rT3 hRt) (rR3_13 hRt)) (ok_eq (ztg_e a2) (ok_eq e8 ?_))))
          obtain ⟨⟨a1', a2'⟩, -⟩ := id hA8
          refine ok_eq (gfR_v (rT114 hR8) S8.1) (ok_eq (gfR_v (rT114 hR8) (rR114_86 hR8)) (ok_eq (gfR_v (rT3 hR8) (rR3_13 hR8)) (ok_eq (ztg_e a2') (ok_eq e13 ?_))))
          refine ok_eq (gfR_v (rT114 hR13) (rR114_86 hR13)) (ok_eq (gfR_v (rT3 hR13) (rR3_13 hR13)) (ok_eq e16 ?_))
          have eT : tru (val0 W n) (mnO W (val0 W n)) (seg W i j) = T n := by rw [← hTT]; rfl
          rw [w32_b2i, eT]
          refine ok_ite (fun hz2 => ?_) (fun hz2 => ?_)
          · have hTn := b2i_0.mp hz2
            refine ih (b2, true, n + 1, u13) ⟨by show n + 1 ≤ ug W 0; omega, sall, S13, ?_, ?_⟩ (by show ug W 0 - (n + 1) < ug W 0 - n; omega)
            · refine g4.trans ⟨?_, ?_⟩
              · rintro ⟨a, q1, q2, q3⟩; exact ⟨a, by show a < n + 1; omega, q2, q3⟩
              · rintro ⟨a, q1, q2, q3⟩
                have q1 : a < n + 1 := q1
                exact ⟨a, by
                  have : a ≠ n := fun z => by rw [z, hTn] at q3; cases q3
                  omega, q2, q3⟩
            · exact ⟨fun _ => ⟨n, by show n < n + 1; omega, hin, hTn⟩, fun _ => rfl⟩
          · have hTn := b2i_n1 hz2
            refine ih (true, b3, n + 1, u13) ⟨by show n + 1 ≤ ug W 0; omega, sall, S13, ?_, ?_⟩ (by show ug W 0 - (n + 1) < ug W 0 - n; omega)
            · exact ⟨fun _ => ⟨n, by show n < n + 1; omega, hin, hTn⟩, fun _ => rfl⟩
            · refine g5.trans ⟨?_, ?_⟩
              · rintro ⟨a, q1, q2, q3⟩; exact ⟨a, by show a < n + 1; omega, q2, q3⟩
              · rintro ⟨a, q1, q2, q3⟩
                have q1 : a < n + 1 := q1
                exact ⟨a, by
                  have : a ≠ n := fun z => by rw [z, hTn] at q3; cases q3
                  omega, q2, q3⟩
      rw [w32_b2i, w32_b2i]
      refine ok_ite (fun _ => body) (fun hz => ok_ite (fun _ => body) (fun hz2 => ok_some ⟨b2, b3, t, rfl, g2, g3, w1, w2, Or.inl ⟨b2i_n1 hz, b2i_n1 hz2⟩⟩))) NN (false, false, 0, u) ⟨Nat.zero_le _, scr_rf, hS, ⟨(fun z => absurd (show false = true from z) (by decide)), (fun ⟨n, q1, _⟩ => absurd q1 (Nat.not_lt_zero _))⟩, ⟨(fun z => absurd (show false = true from z) (by decide)), (fun ⟨n, q1, _⟩ => absurd q1 (Nat.not_lt_zero _))⟩⟩ (NN_gt (by show ug W 0 - 0 < 100000; omega))
  obtain ⟨r, e, b2, b3, u', rfl, h1, h2, h3, h4, h5⟩ := key
  have e' : f2_truth_l7 G (some (L.1 114)) (some c) NN 0 0 0 u = some (b2i b2, b2i b3, u') := e
  have hd : ∀ f, f < nF W → dg f < nS W f := fun f hf => (hd2 f hf).2
  obtain ⟨h0, -⟩ := fst_in (fun f hf => (nS_e hM hf).2.1) hd
  unfold f2_truth
  rw [e', Option.bind_some]
  unfold f2_truth_b100 f2_truth_b112
  simp only [w32_b2i]
  cases b2
  · refine ⟨0, u', rfl, h1, h2, Or.inr ⟨false, rfl, ?_⟩⟩
    rcases h5 with ⟨z, -⟩ | ⟨z, -⟩
    · cases z
    · intro n hn; rw [hTT]; exact z rfl n hn
  · cases b3
    · refine ⟨1, u', rfl, h1, h2, Or.inr ⟨true, rfl, ?_⟩⟩
      rcases h5 with ⟨-, z⟩ | ⟨-, z⟩
      · cases z
      · intro n hn; rw [hTT]; exact z rfl n hn
    · exact ⟨2, u', rfl, h1, h2, Or.inl ⟨rfl, by rw [hTT]; exact h3 rfl, by rw [hTT]; exact h4 rfl⟩⟩
/-- the twin's row -/
theorem m_rowVals {m : Mu} {w : Nat} {W : Wv} {dg : Nat → Int} {n : Nat} {x y : Int} (hw12 : w ≤ 13) (hM : WM W) (h : WY m w W dg n) (hn : n < ug W 0) : ∃ m', m5_rowHolds_l43 w x y NN 0 m = some m' ∧ mfr [] [59] m m' ∧ ∀ f, f < nF W → m'.2 59 f = val0 W n f := by
  obtain ⟨f0, f8⟩ := nF_e hM
  obtain ⟨hw, -, h77⟩ := h
  have key := loop_ind (fun q (t : Nat × Mu) => m5_rowHolds_l43 w x y q (t.1 : Int) t.2) (fun t => nF W - t.1) (fun t => t.1 ≤ nF W ∧ mfr [] [59] m t.2 ∧ ∀ f, f < t.1 → t.2.2 59 f = val0 W n f) (fun _ m' => mfr [] [59] m m' ∧ ∀ f, f < nF W → m'.2 59 f = val0 W n f) (by
    rintro q ⟨i, t⟩ ⟨g1, g2, g3⟩ ih
    simp only at g1 g2 g3
    show ok (m5_rowHolds_l43 w x y (q + 1) (i : Int) t) _
    unfold m5_rowHolds_l43
    have hs : slc t w = W := by rw [← hw]; exact slc_of (fun j q1 q2 => g2.2 j (by simp; omega))
    refine ok_eq (m_sl (w := w) (k := 12) (j := 0) (by decide) (by show (w : Int) = ((1 * w + 0 : Nat) : Int); omega) (by show 1 * w + 0 < 14; omega) (by omega)) ?_
    rw [hs, f0, w32_n (by omega), w32_n (by omega)]
    refine ok_ite (fun hc => ok_some ?_) (fun hc => ?_)
    · have : i = nF W := by omega
      subst this
      exact ⟨g2, g3⟩
    · have hi : i < nF W := by omega
      have hdl := dig_lt (fun f hf => (nS_e hM hf).2.1) (c := n) hi
      have ns := nS_e hM hi
      refine ok_mald i rfl (by omega) (by omega) ?_
      rw [g2.2 77 (by decide), h77 i hi]
      refine ok_eq (m_sl (w := w) (k := 38) (j := 608 * i + dig W n i) (by show 608 * i + dig W n i < 4864; omega) (by show (608 : Int) * (8 * w + i) + (dig W n i : Nat) = ((4864 * w + (608 * i + dig W n i) : Nat) : Int); omega) (by show 4864 * w + (608 * i + dig W n i) < 68096; omega) (by omega)) ?_
      refine ok_mast i rfl (by omega) (by omega) ?_
      rw [hs]
      refine ih (i + 1, _) ⟨by show i + 1 ≤ nF W; omega, mfr_ma g2 (by decide), fun f hf => ?_⟩ (by show nF W - (i + 1) < nF W - i; omega)
      show (ma t 59 i _).2 59 f = _
      rw [ma_s]
      by_cases hfi : f = i
      · rw [if_pos hfi, hfi]; rfl
      · rw [if_neg hfi]; exact g3 f (by have hf : f < i + 1 := hf; omega)) NN (0, m) ⟨Nat.zero_le _, mfr_rf, fun f hf => absurd hf (Nat.not_lt_zero _)⟩ (NN_gt (by show nF W - 0 < 100000; omega))
  obtain ⟨m', e, h1, h2⟩ := key
  exact ⟨m', e, h1, h2⟩

theorem m_rowHolds {m : Mu} {w k : Nat} {W : Wv} {dg : Nat → Int} (hw : slc m w = W) (hw12 : w ≤ 13) (hM : WM W) (hd : ∀ f, f < nF W → m.2 76 f = dg f) (hd2 : ∀ f, f < nF W → -1 ≤ dg f ∧ dg f < nS W f) (hk : k < nP W) : ∃ x m', m5_rowHolds w k m = some (x, m') ∧ mfr [] [59, 60, 61, 77] m m' ∧ ((W 30 k = W 31 k ∧ x = 1) ∨ (W 30 k ≠ W 31 k ∧ TR W dg (seg W (W 30 k) (W 31 k)) x)) := by
  have hM1 := hM.1
  have hk24 : k < 24 := by unfold nP at hk; omega
  have hS : ∀ f, f < nF W → 1 ≤ nS W f := fun f hf => (nS_e hM hf).2.1
  have hT := ug_T hM (f := 0) (Nat.zero_le _)
  obtain ⟨p1, p2, p3, p4, p5⟩ := hM.2.2.2.2.1 k hk
  have rd : ∀ (t : Mu), slc t w = W → ∀ c, c = 30 ∨ c = 31 → mald t c 336 (24 * (w : Int) + k) = some (W c k) := by
    intro t ht c hc
    rw [← ht]
    rcases hc with rfl | rfl <;> exact m_sl (by show k < 24; omega) (by show (24 : Int) * w + k = ((24 * w + k : Nat) : Int); omega) (by show 24 * w + k < 336; omega) (by omega)
  unfold m5_rowHolds
  rw [rd m hw 30 (Or.inl rfl), Option.bind_some, rd m hw 31 (Or.inr rfl), Option.bind_some]
  rcases p5 with p5 | ⟨-, p5⟩
  · rw [p5, if_pos rfl]
    exact ⟨1, m, rfl, mfr_rf, Or.inl ⟨rfl, rfl⟩⟩
  · obtain ⟨s1, s2, s3, s4, s5⟩ := id p5
    rw [w32_id (x := W 30 k) (by omega) (by omega), w32_id (x := W 31 k) (by omega) (by omega), if_neg (by omega)]
    obtain ⟨m1, e1, f1, hY⟩ := m_firstWay hw hw12 hM hd hd2
    obtain ⟨h0, -⟩ := fst_in hS (fun f hf => (hd2 f hf).2)
    have mono : ∀ {a b : Mu}, mfr [] [77] a b → mfr [] [59, 60, 61, 77] a b := fun hh => mfr_up hh (fun k hk => hk) (fun k hk => by revert hk; simp; omega)
    generalize hTT : TW W (seg W (W 30 k) (W 31 k)) = T at *
    generalize hns : seg W (W 30 k) (W 31 k) = ns at *
    have key := loop_ind (fun q (t : Int × Int × Nat × Mu) => m5_rowHolds_l35 w (24 * (w : Int) + k) q t.1 t.2.1 t.2.2.2) (fun t => 2 * (ug W 0 - t.2.2.1) + (if t.2.1 = 0 then 0 else 1))
      (fun t => mfr [] [59, 60, 61, 77] m t.2.2.2 ∧ ((t.2.1 = 0 ∧ ∃ b : Bool, t.1 = b2i b ∧ ∀ n, inM W dg n → T n = b) ∨ (t.2.1 = 1 ∧ WY t.2.2.2 w W dg t.2.2.1 ∧ inM W dg t.2.2.1 ∧ ((t.1 = -1 ∧ ∀ n, inM W dg n → t.2.2.1 ≤ n) ∨ ∃ b : Bool, t.1 = b2i b ∧ (∃ n, inM W dg n ∧ T n = b) ∧ ∀ n, inM W dg n → n < t.2.2.1 → T n = b))))
      (fun _ r => ∃ m', mfr [] [59, 60, 61, 77] m m' ∧ ((r = .inl m' ∧ (∃ n, inM W dg n ∧ T n = true) ∧ ∃ n, inM W dg n ∧ T n = false) ∨ ∃ b : Bool, r = .inr (b2i b, m') ∧ ∀ n, inM W dg n → T n = b)) (by
      rintro q ⟨x, c, n, t⟩ ⟨g1, g2⟩ ih
      simp only at g1 g2
      show ok (m5_rowHolds_l35 w (24 * (w : Int) + k) (q + 1) x c t) _
      unfold m5_rowHolds_l35
      rcases g2 with ⟨rfl, b, rfl, g2⟩ | ⟨rfl, g3, g4, g5⟩
      · exact ok_pos (by decide) (ok_some ⟨t, g1, Or.inr ⟨b, rfl, g2⟩⟩)
      · have hn := g4.1
        obtain ⟨t1, e2, f2, v2⟩ := m_rowVals (x := 24 * (w : Int) + k) (y := x) hw12 hM g3 hn
        have st1 : slc t1 w = W := by rw [← g3.1]; exact slc_of (fun j q1 q2 => f2.2 j (by simp; omega))
        have nfe := (nF_e hM).1
        have vw : ∀ f : Nat, (f : Int) < W 12 0 → w32 (t1.2 59 f) = t1.2 59 f := fun f hf => by
          have hf : f < nF W := by omega
          rw [v2 f hf]; exact val_w hM hf
        obtain ⟨t2, e3, f3, v3⟩ := m_findMeant st1 hw12 hM vw
        have st2 : slc t2 w = W := by rw [← st1]; exact slc_of (fun j q1 q2 => f3.2 j (by simp; omega))
        have t59 : t2.2 59 = t1.2 59 := f3.2 59 (by decide)
        obtain ⟨t3, e4, f4⟩ := m_truth (a := mnO W (t1.2 59)) st2 hw12 hM (by omega) p5 (by rw [t59]; exact vw) (fun k hk => ⟨v3 k (by unfold nM; omega), mnA_01 W _ _ k⟩)
        have eT : tru (t2.2 59) (mnO W (t1.2 59)) ns = T n := by
          rw [← hTT, t59]
          unfold TW
          have mnE : ∀ i, i ≤ nM W → ∀ j, mnA W (t1.2 59) i j = mnA W (val0 W n) i j := by
            intro i
            induction i with
            | zero => intro _ j; rfl
            | succ i ihh =>
              intro hi j
              simp only [mnA]
              split
              · obtain ⟨y1, y2, y3, y4, y5⟩ := hM.2.2.1 i (by omega)
                rw [tru_cg (v := t1.2 59) (v' := val0 W n) (a := mnA W (t1.2 59) i) (a' := mnA W (val0 W n) i) (fun q hq h0 => by
                  have := (y5 q hq).2.2.1 h0
                  rw [v2 q.2.1.toNat (by omega)]) (fun q hq h1 => ihh (by omega) _)]
              · exact ihh (by omega) j
          exact tru_cg (fun q hq h0 => by
            have := (s5 q hq).2.2.1 h0
            rw [v2 q.2.1.toNat (by omega)]) (fun q hq h1 => mnE _ (Nat.le_refl _) _)
        rw [hns, eT] at e4
        have fr : mfr [] [59, 60, 61, 77] m t3 := mfr_tr g1 (mfr_tr (mfr_up f2 (fun k hk => hk) (fun k hk => by revert hk; simp; omega)) (mfr_tr (mfr_up f3 (fun k hk => hk) (fun k hk => by revert hk; simp; omega)) (mfr_up f4 (fun k hk => hk) (fun k hk => by revert hk; simp; omega))))
        have k7 : ∀ c, c ≠ 59 → c ≠ 60 → c ≠ 61 → t3.2 c = t.2 c := fun c z1 z2 z3 => by rw [f4.2 c (by simp [z2]), f3.2 c (by simp [z2, z3]), f2.2 c (by simp [z1])]
        have hY3 : WY t3 w W dg n := ⟨by rw [← g3.1]; exact slc_of (fun j q1 q2 => k7 j (by omega) (by omega) (by omega)), fun f hf => by rw [k7 76 (by omega) (by omega) (by omega)]; exact g3.2.1 f hf, fun f hf => by rw [k7 77 (by omega) (by omega) (by omega)]; exact g3.2.2 f hf⟩
        refine ok_neg (by decide) (ok_eq e2 (ok_eq e3 (ok_eq (rd t2 st2 30 (Or.inl rfl)) (ok_eq (rd t2 st2 31 (Or.inr rfl)) (ok_eq e4 ?_)))))
        show ok (if w32 (b2i (T n)) = 0 then _ else _) _
        rw [w32_b2i]
        have step : ok (m5_rowHolds_b121 (m5_rowHolds_l35 w (24 * (w : Int) + k) q) w (24 * (w : Int) + k) x (b2i (T n)) t3) (fun r => ∃ m', mfr [] [59, 60, 61, 77] m m' ∧ ((r = .inl m' ∧ (∃ n, inM W dg n ∧ T n = true) ∧ ∃ n, inM W dg n ∧ T n = false) ∨ ∃ b : Bool, r = .inr (b2i b, m') ∧ ∀ n, inM W dg n → T n = b)) := by
          have go : (∀ n', inM W dg n' → n' < n → T n' = T n) → ok (m5_rowHolds_b137 (m5_rowHolds_l35 w (24 * (w : Int) + k) q) w (24 * (w : Int) + k) (b2i (T n)) t3) (fun r => ∃ m', mfr [] [59, 60, 61, 77] m m' ∧ ((r = .inl m' ∧ (∃ n, inM W dg n ∧ T n = true) ∧ ∃ n, inM W dg n ∧ T n = false) ∨ ∃ b : Bool, r = .inr (b2i b, m') ∧ ∀ n, inM W dg n → T n = b)) := by
            intro hall
            unfold m5_rowHolds_b137
            obtain ⟨m', f5, hN⟩ := m_nextWay hw12 hM hd2 hY3 g4
            have fr5 := mfr_tr fr (mono f5)
            rcases hN with ⟨e, -, -, hmax⟩ | ⟨n1, e, y1, y2, y3, y4⟩
            · refine ok_eq e ?_
              refine ih (b2i (T n), 0, n, m') ⟨fr5, Or.inl ⟨rfl, T n, rfl, fun n' hn' => ?_⟩⟩ ?_
              · have := hmax n' hn'
                by_cases hnn : n' = n
                · rw [hnn]
                · exact hall n' hn' (by omega)
              · show 2 * (ug W 0 - n) + (if (0 : Int) = 0 then 0 else 1) < 2 * (ug W 0 - n) + (if (1 : Int) = 0 then 0 else 1)
                simp
            · refine ok_eq e ?_
              have n1l := y2.1
              refine ih (b2i (T n), 1, n1, m') ⟨fr5, Or.inr ⟨rfl, y1, y2, Or.inr ⟨T n, rfl, ⟨n, g4, rfl⟩, fun n' hn' hlt => ?_⟩⟩⟩ ?_
              · have hlt : n' < n1 := hlt
                by_cases hnn : n' = n
                · rw [hnn]
                · refine hall n' hn' ?_
                  apply Classical.byContradiction
                  intro hcc
                  have := y4 n' hn' (by omega)
                  omega
              · show 2 * (ug W 0 - n1) + (if (1 : Int) = 0 then 0 else 1) < 2 * (ug W 0 - n) + (if (1 : Int) = 0 then 0 else 1)
                simp
                omega
          unfold m5_rowHolds_b121
          rcases g5 with ⟨rfl, g5⟩ | ⟨b, rfl, ⟨n2, g6, g7⟩, g8⟩
          · exact ok_pos (by decide) (go (fun n' hn' hlt => by have := g5 n' hn'; omega))
          · refine ok_neg (by rw [w32_b2i]; cases b <;> decide) ?_
            rw [w32_b2i, w32_b2i]
            refine ok_ite (fun he => go (fun n' hn' hlt => ?_)) (fun he => ok_some ⟨t3, fr, Or.inl ⟨rfl, ?_⟩⟩)
            · rw [g8 n' hn' hlt]
              revert he; cases b <;> cases T n <;> simp [b2i]
            · cases b
              · refine ⟨⟨n, g4, ?_⟩, n2, g6, g7⟩
                revert he; cases T n <;> simp [b2i]
              · refine ⟨⟨n2, g6, g7⟩, n, g4, ?_⟩
                revert he; cases T n <;> simp [b2i]
        cases hTn : T n
        · rw [hTn] at step; exact ok_pos rfl step
        · rw [hTn] at step; exact ok_neg (by decide) step) NN (-1, 1, fst0 W dg, m1) ⟨mono f1, Or.inr ⟨rfl, hY, h0, Or.inl ⟨rfl, fun n hn => ?_⟩⟩⟩ (NN_gt (by show 2 * (ug W 0 - _) + (if (1 : Int) = 0 then 0 else 1) < 100000; simp; omega))
    · obtain ⟨r, e2, m', q1, q2⟩ := key
      have e2' : m5_rowHolds_l35 w (24 * (w : Int) + k) NN (-1) 1 m1 = some r := e2
      rw [e1, Option.bind_some, e2', Option.bind_some]
      rcases q2 with ⟨rfl, q2, q3⟩ | ⟨b, rfl, q2⟩
      · exact ⟨2, m', rfl, q1, Or.inr ⟨by omega, Or.inl ⟨rfl, by rw [hTT]; exact q2, by rw [hTT]; exact q3⟩⟩⟩
      · exact ⟨b2i b, m', rfl, q1, Or.inr ⟨by omega, Or.inr ⟨b, rfl, by rw [hTT]; exact q2⟩⟩⟩
    · have := fst_min hS (fun f hf => (hd2 f hf).2) hn (nF W) 0 (by omega)
      rw [Nat.mod_eq_of_lt hn.1, Nat.mod_eq_of_lt h0.1] at this
      exact this

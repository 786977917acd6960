/-! THE CALL because -/
theorem WS_dg {L : Ly} {u : Sg} {W : Wv} {wa : Nat} {dg : Nat → Int} {K : Nat} (h : WS L u W wa dg K) : K < 2 ^ nF W := by
  apply Classical.byContradiction
  intro hc
  obtain ⟨i, hi, hb⟩ := Nat.exists_ge_and_testBit_of_ge_two_pow (n := nF W) (x := K) (by omega)
  have := (WS_bit h hb).1
  omega
/-- the class's loop over the sets, with a test that keeps the object Ways -/
theorem c_least {G : CG} {L : Ly} {u : Sg} {m : Mu} (h : RC G L u m) {W : Wv} {wa : Nat} {dg : Nat → Int} {K A : Nat} {gr : Int} {P : Nat → Bool} (hM : WM W) (hA8 : A < 256) (hS : WS L u W wa dg K)
    (hP : ∀ s u', s < 2 ^ nF W → subB s A = true → scr L u u' → WS L u' W wa dg K → ∃ u2, scr L u u2 ∧ WS L u2 W wa dg K ∧ ((w32 gr = 0 ∧ f2_settles G (some (L.1 114)) s u' = some (b2i (P s), u2)) ∨ (w32 gr ≠ 0 ∧ ∃ x, f2_answerBy G (some (L.1 114)) s u' = some (x, u2) ∧ (w32 x = 2 ↔ P s = false)))) :
    ∃ u', f2_least_l43 G (some (L.1 114)) gr (((2 ^ nF W : Nat) : Int) - 1) A NN (-1) 0 u = some (lst A P (2 ^ nF W), u') ∧ scr L u u' ∧ WS L u' W wa dg K := by
  have f8 := (nF_e hM).2
  have h28 : 2 ^ nF W ≤ 256 := by
    have : 2 ^ nF W ≤ 2 ^ 8 := Nat.pow_le_pow_right (by omega) f8
    omega
  have h1 : 1 ≤ 2 ^ nF W := Nat.one_le_two_pow
  generalize 2 ^ nF W = N at *
  have key := loop_ind (fun q (t : Nat × Sg) => f2_least_l43 G (some (L.1 114)) gr ((N : Int) - 1) A q (lst A P t.1) (t.1 : Int) t.2) (fun t => N - t.1) (fun t => t.1 ≤ N ∧ scr L u t.2 ∧ WS L t.2 W wa dg K) (fun _ r => r.1 = lst A P N ∧ scr L u r.2 ∧ WS L r.2 W wa dg K) (by
    rintro q ⟨k, t⟩ ⟨g1, g2, g3⟩ ih
    simp only at g1 g2 g3
    show ok (f2_least_l43 G (some (L.1 114)) gr ((N : Int) - 1) A (q + 1) (lst A P k) (k : Int) t) _
    unfold f2_least_l43
    have hRt := (RC_scr h g2).1
    rw [w32_id (x := (N : Int) - 1) (by omega) (by omega), w32_n (by omega)]
    refine ok_ite (fun hc => ok_some ⟨?_, g2, g3⟩) (fun hc => ?_)
    · have : k = N := by omega
      rw [this]
    · have skip : lst A P (k + 1) = lst A P k → ∀ t2, scr L u t2 → WS L t2 W wa dg K → ok (f2_least_l43 G (some (L.1 114)) gr ((N : Int) - 1) A q (lst A P k) ((k : Int) + 1) t2) (fun r => r.1 = lst A P N ∧ scr L u r.2 ∧ WS L r.2 W wa dg K) := by
        intro e t2 s2 w2
        have := ih (k + 1, t2) ⟨by show k + 1 ≤ N; omega, s2, w2⟩ (by show N - (k + 1) < N - k; omega)
        rw [← e]
        exact this
      have take : lst A P (k + 1) = (k : Int) → ∀ t2, scr L u t2 → WS L t2 W wa dg K → ok (f2_least_b98 G (f2_least_l43 G (some (L.1 114)) gr ((N : Int) - 1) A q) (some (L.1 114)) gr ((N : Int) - 1) A (k : Int) t2) (fun r => r.1 = lst A P N ∧ scr L u r.2 ∧ WS L r.2 W wa dg K) := by
        intro e t2 s2 w2
        unfold f2_least_b98
        have := ih (k + 1, t2) ⟨by show k + 1 ≤ N; omega, s2, w2⟩ (by show N - (k + 1) < N - k; omega)
        simp only [e] at this
        exact this
      refine ok_ite (fun hsub => ?_) (fun hsub => ?_)
      · have hsB : subB k A = true := decide_eq_true hsub
        have hbf : ∃ bb : Bool, f2_isBefore G (some (L.1 114)) (k : Int) (lst A P k) t = some (b2i bb) ∧ (bb = true ↔ (lst A P k < 0 ∨ bef k (lst A P k).toNat = true)) := by
          have hb := lst_bd (A := A) (P := P) k
          by_cases hneg : lst A P k < 0
          · refine ⟨true, ?_, ⟨fun _ => Or.inl hneg, fun _ => rfl⟩⟩
            unfold f2_isBefore
            rw [if_neg (by rw [w32_id (x := lst A P k) (by omega) (by omega)]; omega)]
            rfl
          · obtain ⟨j, hj⟩ : ∃ j : Nat, lst A P k = j := ⟨(lst A P k).toNat, by omega⟩
            refine ⟨bef k j, by rw [hj]; exact c_bef (by omega) (by omega), ?_⟩
            rw [hj]
            constructor
            · intro q; exact Or.inr (by simpa using q)
            · rintro (q | q)
              · omega
              · simpa using q
        obtain ⟨bb, e1, e2⟩ := hbf
        refine ok_eq (ztg_e (rT114 hRt)) (ok_eq e1 ?_)
        rw [w32_b2i]
        refine ok_ite (fun hz => ?_) (fun hz => ?_)
        · refine skip ?_ t g2 g3
          simp only [lst]
          rw [if_neg (fun z => by have := e2.mpr z.2.1; rw [b2i_0.mp hz] at this; cases this)]
        · have hbb : bb = true := by revert hz; cases bb <;> simp [b2i]
          obtain ⟨u2, s2, w2, hh⟩ := hP k t (by omega) hsB g2 g3
          rcases hh with ⟨hg, e3⟩ | ⟨hg, x, e3, e4⟩
          · refine ok_pos hg (ok_eq (ztg_e (rT114 hRt)) (ok_eq e3 ?_))
            show ok (if w32 (b2i (P k)) = 0 then _ else _) _
            rw [w32_b2i]
            refine ok_ite (fun hz2 => ?_) (fun hz2 => ?_)
            · refine skip ?_ u2 s2 w2
              simp only [lst]
              rw [if_neg (fun z => by rw [b2i_0.mp hz2] at z; cases z.2.2)]
            · refine take ?_ u2 s2 w2
              simp only [lst]
              rw [if_pos ⟨hsB, e2.mp hbb, by revert hz2; cases P k <;> simp [b2i]⟩]
          · refine ok_neg hg (ok_eq (ztg_e (rT114 hRt)) (ok_eq e3 ?_))
            show ok (if w32 x = 2 then _ else _) _
            refine ok_ite (fun hz2 => ?_) (fun hz2 => ?_)
            · refine skip ?_ u2 s2 w2
              simp only [lst]
              rw [if_neg (fun z => by rw [e4.mp hz2] at z; cases z.2.2)]
            · refine take ?_ u2 s2 w2
              simp only [lst]
              rw [if_pos ⟨hsB, e2.mp hbb, by cases hh : P k; exact absurd (e4.mpr hh) hz2; rfl⟩]
      · refine skip ?_ t g2 g3
        simp only [lst]
        rw [if_neg (fun z => hsub (of_decide_eq_true z.1))]) NN (0, u) ⟨Nat.zero_le _, scr_rf, hS⟩ (NN_gt (by show N - 0 < 100000; omega))
  obtain ⟨⟨r1, r2⟩, e, h1, h2, h3⟩ := key
  simp only at h1
  refine ⟨r2, ?_, h2, h3⟩
  rw [← h1]
  exact e
theorem lst_c {A : Nat} {P Q : Nat → Bool} (h : ∀ s, subB s A = true → P s = Q s) : ∀ k, mls A P k = mls A Q k := by
  intro k
  induction k with
  | zero => rfl
  | succ k ih =>
    simp only [mls]
    rw [ih]
    by_cases hs : subB k A = true
    · rw [h k hs]
    · rw [if_neg (fun q => hs q.1), if_neg (fun q => hs q.1)]
/-- the known facts as a number, by the twin -/
theorem m_has {m : Mu} {w : Nat} {W : Wv} {dg : Nat → Int} {K : Nat} (hw : slc m w = W) (hw12 : w ≤ 13) (hM : WM W) (hd : ∀ f, f < nF W → m.2 76 f = dg f) (hd2 : ∀ f, f < nF W → -1 ≤ dg f ∧ dg f < nS W f) (hK : K < 256) (hKb : ∀ g, K.testBit g = decide (g < nF W ∧ 0 ≤ dg g)) : ∃ m', m5_because_l48 w NN 0 0 m = some ((K : Int), m') ∧ mfr [] [80] m m' ∧ ∀ f, f < nF W → m'.2 80 f = dg f := by
  obtain ⟨f0, f8⟩ := nF_e hM
  have key := loop_ind (fun q (t : Nat × Nat × Mu) => m5_because_l48 w q (t.1 : Int) (t.2.1 : Int) t.2.2) (fun t => nF W - t.2.1) (fun t => t.2.1 ≤ nF W ∧ t.1 < 256 ∧ (∀ g, t.1.testBit g = decide (g < t.2.1 ∧ 0 ≤ dg g)) ∧ mfr [] [80] m t.2.2 ∧ ∀ f, f < t.2.1 → t.2.2.2 80 f = dg f) (fun _ r => r.1 = (K : Int) ∧ mfr [] [80] m r.2 ∧ ∀ f, f < nF W → r.2.2 80 f = dg f) (by
    rintro q ⟨c, i, s⟩ ⟨h1, h2, h3, h4, h5⟩ ih
    simp only at h1 h2 h3 h4 h5
    show ok (m5_because_l48 w (q + 1) (c : Int) (i : Int) s) _
    unfold m5_because_l48
    have hs : slc s w = W := by rw [← hw]; exact slc_of (fun j q1 q2 => h4.2 j (by simp; omega))
    refine ok_eq (m_sl (w := w) (k := 12) (j := 0) (by decide) (by show (w : Int) = ((1 * w + 0 : Nat) : Int); omega) (by show 1 * w + 0 < 14; omega) (by omega)) ?_
    rw [hs, f0, w32_n (by omega), w32_n (by omega)]
    refine ok_ite (fun hc => ok_some ?_) (fun hc => ?_)
    · have : i = nF W := by omega
      subst this
      refine ⟨?_, h4, h5⟩
      have : c = K := Nat.eq_of_testBit_eq (fun j => by rw [h3, hKb])
      rw [this]
    · have hi : i < nF W := by omega
      have hdi : s.2 76 i = dg i := by rw [h4.2 76 (by decide)]; exact hd i hi
      obtain ⟨d1, d2⟩ := hd2 i hi
      have ns := nS_e hM hi
      refine ok_mald i rfl (by omega) (by omega) (ok_mast i rfl (by omega) (by omega) (ok_mald i rfl (by omega) (by omega) ?_))
      rw [ma_o (by decide), hdi, w32_id (x := dg i) (by omega) (by omega)]
      have h80 : ∀ f, f < i + 1 → (ma s 80 i (dg i)).2 80 f = dg f := fun f hf => by
        rw [ma_s]
        by_cases hfi : f = i
        · rw [if_pos hfi, hfi]
        · rw [if_neg hfi]; exact h5 f (by omega)
      refine ok_ite (fun hn => ?_) (fun hn => ?_)
      · unfold m5_because_b93
        have e0 : or32 (c : Int) 0 = (c : Int) := by
          have := or32_n (a := c) (b := 0) (by omega) (by omega)
          rw [Nat.or_zero] at this
          exact this
        rw [e0]
        refine ih (c, i + 1, ma s 80 i (dg i)) ⟨by show i + 1 ≤ nF W; omega, h2, fun g => ?_, mfr_ma h4 (by decide), h80⟩ (by show nF W - (i + 1) < nF W - i; omega)
        show c.testBit g = decide (g < i + 1 ∧ 0 ≤ dg g)
        rw [h3]
        congr 1
        apply propext
        constructor
        · rintro ⟨a, b⟩; exact ⟨by omega, b⟩
        · rintro ⟨a, b⟩
          refine ⟨?_, b⟩
          by_cases hgi : g = i
          · rw [hgi] at b; omega
          · omega
      · unfold m5_because_b93
        have hlt : (2 : Nat) ^ i < 256 := by
          have : 2 ^ i ≤ 2 ^ 7 := Nat.pow_le_pow_right (by omega) (by omega)
          omega
        rw [shl32_1 i (by omega), or32_n (by omega) (by omega)]
        refine ih (c ||| 2 ^ i, i + 1, ma s 80 i (dg i)) ⟨by show i + 1 ≤ nF W; omega, Nat.or_lt_two_pow (n := 8) h2 hlt, fun g => ?_, mfr_ma h4 (by decide), h80⟩ (by show nF W - (i + 1) < nF W - i; omega)
        show (c ||| 2 ^ i).testBit g = decide (g < i + 1 ∧ 0 ≤ dg g)
        rw [Nat.testBit_or, h3, Nat.testBit_two_pow]
        by_cases hgi : i = g
        · subst hgi
          have : 0 ≤ dg i := by omega
          simp [this]
        · simp only [hgi, decide_false, Bool.or_false]
          congr 1
          apply propext
          constructor <;> rintro ⟨a, b⟩ <;> exact ⟨by omega, b⟩) NN (0, 0, m) ⟨Nat.zero_le _, show 0 < 256 by decide, fun g => by
        show (0 : Nat).testBit g = decide (g < 0 ∧ 0 ≤ dg g)
        rw [Nat.zero_testBit, decide_eq_false (by omega)], mfr_rf, fun f hf => absurd hf (Nat.not_lt_zero _)⟩ (NN_gt (by show nF W - 0 < 100000; omega))
  obtain ⟨⟨r1, r2⟩, e, h1, h2, h3⟩ := key
  simp only at h1
  refine ⟨r2, ?_, h2, h3⟩
  rw [← h1]
  exact e
theorem m_because_set {m : Mu} {w : Nat} {W : Wv} {dg : Nat → Int} {x y : Int} {s : Nat} (hw : slc m w = W) (hw12 : w ≤ 13) (hM : WM W) (hd : ∀ f, f < nF W → m.2 80 f = dg f) (hs : s < 256) : ∃ m', m5_because_l143 w x y s NN 0 m = some m' ∧ mfr [] [76] m m' ∧ ∀ f, f < nF W → m'.2 76 f = dgs dg s f := by
  obtain ⟨f0, f8⟩ := nF_e hM
  have key := loop_ind (fun q (t : Nat × Mu) => m5_because_l143 w x y s q (t.1 : Int) t.2) (fun t => nF W - t.1) (fun t => t.1 ≤ nF W ∧ mfr [] [76] m t.2 ∧ ∀ f, f < t.1 → t.2.2 76 f = dgs dg s f) (fun _ m' => mfr [] [76] m m' ∧ ∀ f, f < nF W → m'.2 76 f = dgs dg s f) (by
    rintro q ⟨i, t⟩ ⟨h1, h2, h3⟩ ih
    simp only at h1 h2 h3
    show ok (m5_because_l143 w x y s (q + 1) (i : Int) t) _
    unfold m5_because_l143
    have hs' : slc t w = W := by rw [← hw]; exact slc_of (fun j q1 q2 => h2.2 j (by simp; omega))
    refine ok_eq (m_sl (w := w) (k := 12) (j := 0) (by decide) (by show (w : Int) = ((1 * w + 0 : Nat) : Int); omega) (by show 1 * w + 0 < 14; omega) (by omega)) ?_
    rw [hs', f0, w32_n (by omega), w32_n (by omega)]
    refine ok_ite (fun hc => ok_some ?_) (fun hc => ?_)
    · have : i = nF W := by omega
      subst this
      exact ⟨h2, h3⟩
    · have step : ∀ z : Int, z = dgs dg s i → ok (m5_because_l143 w x y s q ((i : Int) + 1) (ma t 76 i z)) (fun m' => mfr [] [76] m m' ∧ ∀ f, f < nF W → m'.2 76 f = dgs dg s f) := by
        intro z hz
        refine ih (i + 1, ma t 76 i z) ⟨by show i + 1 ≤ nF W; omega, mfr_ma h2 (by decide), fun f hf => ?_⟩ (by show nF W - (i + 1) < nF W - i; omega)
        show (ma t 76 i z).2 76 f = _
        rw [ma_s]
        by_cases hfi : f = i
        · rw [if_pos hfi, hfi, hz]
        · rw [if_neg hfi]; exact h3 f (by have hf : f < i + 1 := hf; omega)
      by_cases hb : s.testBit i = true
      · refine ok_pos ((bit1 hs (by omega)).mpr hb) (ok_mald i rfl (by omega) (by omega) (ok_mast i rfl (by omega) (by omega) ?_))
        rw [h2.2 80 (by decide), hd i (by omega)]
        exact step _ (by unfold dgs; rw [if_pos hb])
      · refine ok_neg (fun z => hb ((bit1 hs (by omega)).mp z)) (ok_mast i rfl (by omega) (by omega) ?_)
        exact step _ (by unfold dgs; rw [if_neg hb])) NN (0, m) ⟨Nat.zero_le _, mfr_rf, fun f hf => absurd hf (Nat.not_lt_zero _)⟩ (NN_gt (by show nF W - 0 < 100000; omega))
  obtain ⟨m', e, h1, h2⟩ := key
  exact ⟨m', e, h1, h2⟩
theorem m_because_l {m : Mu} {w : Nat} {W : Wv} {dg : Nat → Int} {A : Nat} (hw : slc m w = W) (hw12 : w ≤ 13) (hM : WM W) (hd : ∀ f, f < nF W → m.2 80 f = dg f) (hd2 : ∀ f, f < nF W → -1 ≤ dg f ∧ dg f < nS W f) (hA : A < 256) : ∃ m', m5_because_l109 w A NN A 0 m = some (((mls A (fun s => decide (setl W (dgs dg s) ≠ 2)) 256 : Nat) : Int), m') ∧ mfr [] [76, 77] m m' := by
  generalize hP : (fun s => decide (setl W (dgs dg s) ≠ 2)) = P
  have key := loop_ind (fun q (t : Nat × Mu) => m5_because_l109 w A q ((mls A P t.1 : Nat) : Int) (t.1 : Int) t.2) (fun t => 256 - t.1) (fun t => t.1 ≤ 256 ∧ mfr [] [76, 77] m t.2) (fun _ r => r.1 = ((mls A P 256 : Nat) : Int) ∧ mfr [] [76, 77] m r.2) (by
    rintro q ⟨k, t⟩ ⟨h1, h2⟩ ih
    simp only at h1 h2
    show ok (m5_because_l109 w A (q + 1) ((mls A P k : Nat) : Int) (k : Int) t) _
    unfold m5_because_l109
    have hlt := mls_lt (P := P) hA k h1
    rw [w32_n (by omega)]
    refine ok_ite (fun hc => ok_some ⟨?_, h2⟩) (fun hc => ?_)
    · have : k = 256 := by omega
      rw [this]
    · have skip : mls A P (k + 1) = mls A P k → ∀ t2, mfr [] [76, 77] m t2 → ok (m5_because_l109 w A q ((mls A P k : Nat) : Int) ((k : Int) + 1) t2) (fun r => r.1 = ((mls A P 256 : Nat) : Int) ∧ mfr [] [76, 77] m r.2) := by
        intro e t2 s2
        have := ih (k + 1, t2) ⟨by show k + 1 ≤ 256; omega, s2⟩ (by show 256 - (k + 1) < 256 - k; omega)
        rw [← e]
        exact this
      refine ok_ite (fun hsub => ?_) (fun hsub => ?_)
      · have hsB : subB k A = true := decide_eq_true hsub
        refine ok_eq (m_bef (by omega) hlt) ?_
        rw [w32_b2i]
        refine ok_ite (fun hz => ?_) (fun hz => ?_)
        · refine skip ?_ t h2
          simp only [mls]
          rw [if_neg (fun z => by rw [b2i_0.mp hz] at z; cases z.2.1)]
        · have hbb : bef k (mls A P k) = true := by revert hz; cases bef k (mls A P k) <;> simp [b2i]
          have hs' : slc t w = W := by rw [← hw]; exact slc_of (fun j q1 q2 => h2.2 j (by simp; omega))
          obtain ⟨m2, e2, g1, g2⟩ := m_because_set (dg := dg) (x := A) (y := ((mls A P k : Nat) : Int)) (s := k) hs' hw12 hM (fun f hf => by rw [h2.2 80 (by decide)]; exact hd f hf) (by omega)
          have hs2 : slc m2 w = W := by rw [← hs']; exact slc_of (fun j q1 q2 => g1.2 j (by simp; omega))
          obtain ⟨m3, e3, g3⟩ := m_settled hs2 hw12 hM g2 (fun f hf => by
            unfold dgs
            have := hd2 f hf
            have := (nS_e hM hf).2.1
            split <;> omega)
          have fr : mfr [] [76, 77] m m3 := mfr_tr h2 (mfr_tr (mfr_up g1 (fun k hk => hk) (fun k hk => by revert hk; simp; omega)) (mfr_up g3 (fun k hk => hk) (fun k hk => by revert hk; simp; omega)))
          refine ok_eq e2 (ok_eq e3 ?_)
          show ok (if w32 (setl W (dgs dg k)) = 2 then _ else _) _
          have h3 := setl_3 W (dgs dg k)
          rw [w32_id (x := setl W (dgs dg k)) (by omega) (by omega)]
          refine ok_ite (fun hz2 => ?_) (fun hz2 => ?_)
          · refine skip ?_ m3 fr
            simp only [mls]
            rw [if_neg (fun z => by have := z.2.2; rw [← hP] at this; simp at this; exact this hz2)]
          · have e4 : mls A P (k + 1) = k := by
              simp only [mls]
              rw [if_pos ⟨hsB, hbb, by rw [← hP]; simp; exact hz2⟩]
            have := ih (k + 1, m3) ⟨by show k + 1 ≤ 256; omega, fr⟩ (by show 256 - (k + 1) < 256 - k; omega)
            simp only [e4] at this
            exact this
      · refine skip ?_ t h2
        simp only [mls]
        rw [if_neg (fun z => hsub (of_decide_eq_true z.1))]) NN (0, m) ⟨Nat.zero_le _, mfr_rf⟩ (NN_gt (by show 256 - 0 < 100000; omega))
  obtain ⟨⟨r1, r2⟩, e, h1, h2⟩ := key
  simp only at h1
  refine ⟨r2, ?_, h2⟩
  rw [← h1]
  exact e
theorem o_because {G : CG} {L : Ly} {u : Sg} {m : Mu} (h : RC G L u m) (e k : Int) (he : w32 e = e) (hk : w32 k = k) : sim (f0_because G (some (L.1 3)) e k u) (m5_because e k m) (aft G L) := by
  unfold f0_because m5_because
  refine sim_L (ztg_e (rT3 h.1)) ?_
  by_cases hg : (1 ≤ e ∧ e ≤ m.1 71) ∧ 0 ≤ k ∧ k ≤ 9999
  · obtain ⟨n, rfl⟩ : ∃ n : Nat, e = n := ⟨e.toNat, by omega⟩
    obtain ⟨w, K, u', m', w1, w12, w2, w3, hM, e1, s1, hA', hS', e2, f1, f2, f3⟩ := look_ok h (e := n) (day := k) (by omega) (by omega) hk hg.2
    have n32 := h.2.2.2.2.2.1.2.1
    refine sim_L e1 (sim_posL (show 0 ≤ w32 0 by decide) (sim_R (noEvent_ok h he hk hg.1 hg.2) (sim_posR (by decide) ?_)))
    refine sim_mald n rfl (by omega) (by omega) ?_
    rw [w3]
    have h' := RC_scr h s1
    have hR' := h'.1
    generalize hW : slc m w = W at *
    generalize hdg : dgt W (vvE m n k) = dg at *
    have hd2 : ∀ f, f < nF W → -1 ≤ dg f ∧ dg f < nS W f := fun f hf => by rw [← hdg]; exact dgt_bd hM _ hf
    obtain ⟨m2, e3, f4⟩ := m_settled f2 (by omega) hM f3 hd2
    obtain ⟨u2, e4, s2, hS2⟩ := c_answerBy h' hM hA' hS' hS'.2.2.1 (fun f _ hb => (WS_bit hS' hb).2) (fun f hf => (hd2 f hf).2)
    have h2' := RC_scr h' s2
    have hR2 := h2'.1
    have hA2 := WA_k (frz_scr s2) hA'
    have cg := setl_cg (dgs_K hS' (fun f hf => (hd2 f hf).1))
    refine sim_R e2 (sim_R e3 ?_)
    refine sim_L (gfR_v (rT3 hR') (rR3_14 hR')) (sim_L (gfR_v (rT3 hR') (rR3_14 hR')) (sim_L (gfI_v (rT114 hR') hS'.2.1) (sim_L (ztg_e (rT114 hR')) (sim_L e4 ?_))))
    show sim (if w32 (setl W (dgs dg K)) = 2 then _ else _) (if w32 (setl W dg) = 2 then _ else _) _
    rw [cg]
    have fr2 : mfr [] [76, 77, 80] m m2 := mfr_tr (mfr_up f1 (fun k hk => hk) (fun k hk => by revert hk; simp; omega)) (mfr_up f4 (fun k hk => hk) (fun k hk => by revert hk; simp; omega))
    have h3 := setl_3 W dg
    rw [w32_id (x := setl W dg) (by omega) (by omega)]
    refine sim_ite Iff.rfl (fun _ => sim_some ⟨rfl, RC_msc (RC_scr h (scr_tr s1 s2)) (mfr_up fr2 (by simp) (by decide))⟩) (fun hz => ?_)
    obtain ⟨m3, e5, f5, f6⟩ := m_has (m := m2) (w := w) (W := W) (dg := dg) (K := K) (by rw [← f2]; exact slc_of (fun j q1 q2 => f4.2 j (by simp; omega))) (by omega) hM (fun f hf => by rw [f4.2 76 (by decide)]; exact f3 f hf) hd2 hS'.2.2.1 hS'.2.2.2.1
    have sl3 : slc m3 w = W := by rw [← f2, slc_of (m := m2) (m' := m3) (fun j q1 q2 => f5.2 j (by simp; omega))]; exact slc_of (fun j q1 q2 => f4.2 j (by simp; omega))
    obtain ⟨m4, e6, f7⟩ := m_because_l (A := K) sl3 (by omega) hM f6 hd2 hS'.2.2.1
    have hPK : decide (setl W (dgs dg K) ≠ 2) = true := by rw [cg]; exact decide_eq_true hz
    obtain ⟨u3, e7, s3, hS3⟩ := c_least (gr := 1) (A := K) (P := fun s => decide (setl W (dgs dg s) ≠ 2)) h2' hM hS'.2.2.1 hS2 (fun s t hs hsub hsc hws => by
      have s8 : s < 256 := by
        have : 2 ^ nF W ≤ 2 ^ 8 := Nat.pow_le_pow_right (by omega) (nF_e hM).2
        omega
      have hsb := (sub_iff s8 hS'.2.2.1).mp (by unfold subB at hsub; exact of_decide_eq_true hsub)
      obtain ⟨t2, x1, x2, x3⟩ := c_answerBy (RC_scr h2' hsc) hM (WA_k (frz_scr hsc) hA2) hws s8 (fun f _ hb => (WS_bit hS' (hsb f hb)).2) (fun f hf => (hd2 f hf).2)
      refine ⟨t2, scr_tr hsc x2, x3, Or.inr ⟨by decide, _, x1, ?_⟩⟩
      have h3 := setl_3 W (dgs dg s)
      rw [w32_id (x := setl W (dgs dg s)) (by omega) (by omega)]
      simp)
    have hres := lst_same (P := fun s => decide (setl W (dgs dg s) ≠ 2)) (nF_e hM).2 (WS_dg hS') hPK
    refine sim_R e5 (sim_R e6 (sim_L (gfR_v (rT3 hR2) (rR3_14 hR2)) (sim_L (ztg_e (rT114 hR2)) ?_)))
    have hle : f2_least G (some (L.1 114)) 1 u2 = some (lst K (fun s => decide (setl W (dgs dg s) ≠ 2)) (2 ^ nF W), u3) := by
      obtain ⟨⟨a1, a2⟩, ⟨l1, e9, b1, b2, -⟩, -⟩ := hA2
      have f8 := (nF_e hM).2
      have e10 : (shl32 1 ((nF W : Nat) : Int) - 1) = (((2 ^ nF W : Nat) : Int) - 1) := by rw [shl32_1 (nF W) (by omega)]
      unfold f2_least f2_least_b36
      rw [gfR_v (rT114 hR2) hS2.1, Option.bind_some, gfR_v a2 b1, Option.bind_some, ztg_e (lf_tag b2), Option.bind_some, lf_size b2, Option.bind_some, if_neg (by decide), gfI_v (rT114 hR2) hS2.2.1, Option.bind_some, e10, e7]
      rfl
    refine sim_L hle (sim_some ⟨hres, RC_msc (RC_scr h (scr_tr s1 (scr_tr s2 s3))) (mfr_up (mfr_tr fr2 (mfr_tr (mfr_up f5 (fun k hk => hk) (fun k hk => by revert hk; simp; omega)) (mfr_up f7 (fun k hk => hk) (fun k hk => by revert hk; simp; omega)))) (by simp) (by decide))⟩)
  · obtain ⟨x, hx, e1, e2⟩ := look_bad h he hk hg
    refine sim_L e1 (sim_R e2 (sim_negL (by show ¬ 0 ≤ w32 x; rcases hx with rfl | rfl <;> decide) (sim_negR (by rcases hx with rfl | rfl <;> decide) (sim_R e2 (sim_some ⟨rfl, h⟩)))))

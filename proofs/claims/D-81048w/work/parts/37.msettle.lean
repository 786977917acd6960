/-! HOW MANY WAYS HAVE WHICH ANSWER: the twin -/
def mtB (W : Wv) (dg : Nat → Int) (n : Nat) : Nat → Bool
  | 0 => true
  | f + 1 => mtB W dg n f && (decide (dg f < 0) || decide ((dig W n f : Int) = dg f))
def mt (W : Wv) (dg : Nat → Int) (n : Nat) : Bool := mtB W dg n (nF W)
theorem mtB_iff (W : Wv) (dg : Nat → Int) (n : Nat) : ∀ k, mtB W dg n k = true ↔ ∀ f, f < k → 0 ≤ dg f → (dig W n f : Int) = dg f := by
  intro k
  induction k with
  | zero => exact ⟨fun _ f hf => absurd hf (Nat.not_lt_zero _), fun _ => rfl⟩
  | succ k ih =>
    simp only [mtB, Bool.and_eq_true, Bool.or_eq_true, decide_eq_true_eq]
    rw [ih]
    constructor
    · rintro ⟨h1, h2⟩ f hf h0
      by_cases hfk : f = k
      · subst hfk; rcases h2 with h2 | h2
        · omega
        · exact h2
      · exact h1 f (by omega) h0
    · intro h
      refine ⟨fun f hf => h f (by omega), ?_⟩
      by_cases h0 : dg k < 0
      · exact Or.inl h0
      · exact Or.inr (h k (by omega) (by omega))
theorem mt_in {W : Wv} {dg : Nat → Int} {n : Nat} (hn : n < ug W 0) : mt W dg n = true ↔ inM W dg n := by
  unfold mt; rw [mtB_iff]
  exact ⟨fun h => ⟨hn, h⟩, fun h => h.2⟩
abbrev aw (W : Wv) (n : Nat) : Bool := ansO W (val0 W n)
/-- how many of the first k ways are of the digits and have the answer a -/
def cntA (W : Wv) (dg : Nat → Int) (a : Bool) : Nat → Nat
  | 0 => 0
  | k + 1 => cntA W dg a k + if mt W dg k = true ∧ aw W k = a then 1 else 0
theorem cntA_0 (W : Wv) (dg : Nat → Int) (a : Bool) : ∀ k, cntA W dg a k = 0 ↔ ∀ n, n < k → mt W dg n = true → aw W n ≠ a := by
  intro k
  induction k with
  | zero => exact ⟨fun _ n hn => absurd hn (Nat.not_lt_zero _), fun _ => rfl⟩
  | succ k ih =>
    simp only [cntA]
    constructor
    · intro h n hn hm
      by_cases hnk : n = k
      · subst hnk
        intro he
        rw [if_pos ⟨hm, he⟩] at h
        omega
      · exact ih.mp (by omega) n (by omega) hm
    · intro h
      rw [ih.mpr (fun n hn => h n (by omega)), if_neg (fun q => h k (by omega) q.1 q.2)]
theorem cntA_gap (W : Wv) (dg : Nat → Int) (a : Bool) {i : Nat} : ∀ j, i ≤ j → (∀ n, i ≤ n → n < j → mt W dg n = false) → cntA W dg a j = cntA W dg a i := by
  intro j
  induction j with
  | zero => intro h _; rw [Nat.le_zero.mp h]
  | succ j ih =>
    intro h hm
    by_cases hij : i = j + 1
    · rw [hij]
    · simp only [cntA]
      rw [if_neg (fun q => by rw [hm j (by omega) (by omega)] at q; cases q.1), ih (by omega) (fun n h1 h2 => hm n h1 (by omega))]
      rfl
theorem cntA_le (W : Wv) (dg : Nat → Int) (a : Bool) : ∀ k, cntA W dg a k ≤ k := by
  intro k
  induction k with
  | zero => exact Nat.le_refl _
  | succ k ih => simp only [cntA]; split <;> omega
/-- settled to 0 or 1, or not -/
def setl (W : Wv) (dg : Nat → Int) : Int := if cntA W dg false (ug W 0) = 0 then 1 else if cntA W dg true (ug W 0) = 0 then 0 else 2
theorem setl_all {W : Wv} {dg : Nat → Int} {o : Bool} {n0 : Nat} (h0 : inM W dg n0) (h : ∀ n, inM W dg n → aw W n = o) : setl W dg = b2i o := by
  unfold setl
  cases o with
  | true =>
    rw [if_pos ((cntA_0 _ _ _ _).mpr (fun n hn hm => by rw [h n ((mt_in hn).mp hm)]; decide))]
    rfl
  | false =>
    have h1 : ¬ cntA W dg false (ug W 0) = 0 := fun q => (cntA_0 _ _ _ _).mp q n0 h0.1 ((mt_in h0.1).mpr h0) (h n0 h0)
    rw [if_neg h1, if_pos ((cntA_0 _ _ _ _).mpr (fun n hn hm => by rw [h n ((mt_in hn).mp hm)]; decide))]
    rfl
theorem setl_2 {W : Wv} {dg : Nat → Int} {n n' : Nat} (h0 : inM W dg n) (h1 : inM W dg n') (h : aw W n ≠ aw W n') : setl W dg = 2 := by
  have key : ∀ a, ¬ cntA W dg a (ug W 0) = 0 := by
    intro a q
    have q1 := (cntA_0 _ _ _ _).mp q n h0.1 ((mt_in h0.1).mpr h0)
    have q2 := (cntA_0 _ _ _ _).mp q n' h1.1 ((mt_in h1.1).mpr h1)
    revert q1 q2 h
    cases aw W n <;> cases aw W n' <;> cases a <;> simp
  unfold setl
  rw [if_neg (key _), if_neg (key _)]
/-- where there is a way that is greater, one is next -/
theorem m_settled {m : Mu} {w : Nat} {W : Wv} {dg : Nat → Int} (hw : slc m w = W) (hw12 : w ≤ 13) (hM : WM W) (hd : ∀ f, f < nF W → m.2 76 f = dg f) (hd2 : ∀ f, f < nF W → -1 ≤ dg f ∧ dg f < nS W f) : ∃ m', m5_settled w m = some (setl W dg, m') ∧ mfr [] [77] m m' := by
  obtain ⟨m1, e1, h1, hY⟩ := m_firstWay hw hw12 hM hd hd2
  have hS : ∀ f, f < nF W → 1 ≤ nS W f := fun f hf => (nS_e hM hf).2.1
  have h0 := (fst_in hS (fun f hf => (hd2 f hf).2)).1
  have hT : ug W 0 ≤ 2000 := by have := hM.2.2.2.2.2.2.2.1; rw [← ug_0] at this; omega
  have key := loop_ind (fun q (s : Nat × Mu) => m5_settled_l11 w (b2i (aw W (fst0 W dg))) q s.2) (fun s => ug W 0 - s.1) (fun s => mfr [] [77] m s.2 ∧ WY s.2 w W dg s.1 ∧ inM W dg s.1 ∧ ∀ n, inM W dg n → n ≤ s.1 → aw W n = aw W (fst0 W dg)) (fun _ r => (∃ m', r = .inl m' ∧ mfr [] [77] m m' ∧ setl W dg = 2) ∨ ∃ m', r = .inr m' ∧ mfr [] [77] m m' ∧ setl W dg = b2i (aw W (fst0 W dg))) (by
    rintro q ⟨n, s⟩ ⟨g1, g2, g3, g4⟩ ih
    simp only at g1 g2 g3 g4
    show ok (m5_settled_l11 w (b2i (aw W (fst0 W dg))) (q + 1) s) _
    unfold m5_settled_l11
    obtain ⟨m', f1, hN⟩ := m_nextWay hw12 hM hd2 g2 g3
    rcases hN with ⟨e, -, -, hmax⟩ | ⟨n1, e, y1, y2, y3, y4⟩
    · refine ok_eq e (ok_pos (show w32 0 = 0 from rfl) (ok_some (Or.inr ⟨m', rfl, mfr_tr g1 f1, ?_⟩)))
      exact setl_all h0 (fun n' hn' => g4 n' hn' (hmax n' hn'))
    · refine ok_eq e (ok_neg (show ¬ w32 1 = 0 by decide) (ok_eq (m_wayAnswer hw12 hM y1 y2.1) ?_))
      rw [w32_b2i, w32_b2i]
      refine ok_ite (fun he => ?_) (fun he => ok_some (Or.inl ⟨m', rfl, mfr_tr g1 f1, ?_⟩))
      · have he' : aw W n1 = aw W (fst0 W dg) := by revert he; unfold aw; cases ansO W (val0 W n1) <;> cases ansO W (val0 W (fst0 W dg)) <;> simp [b2i]
        refine ih (n1, m') ⟨mfr_tr g1 f1, y1, y2, fun n' hn' hle => ?_⟩ (by show ug W 0 - n1 < ug W 0 - n; have := y2.1; omega)
        by_cases hc : n' ≤ n
        · exact g4 n' hn' hc
        · have hle : n' ≤ n1 := hle
          have := y4 n' hn' (by omega)
          have : n' = n1 := by omega
          rw [this]; exact he'
      · refine setl_2 y2 h0 (fun q => he ?_)
        have q : ansO W (val0 W n1) = ansO W (val0 W (fst0 W dg)) := q
        rw [q]) NN (fst0 W dg, m1) ⟨h1, hY, h0, fun n hn hle => by
          have hle : n ≤ fst0 W dg := hle
          have := fst_min hS (fun f hf => (hd2 f hf).2) hn (nF W) 0 (by omega)
          rw [Nat.mod_eq_of_lt hn.1, Nat.mod_eq_of_lt h0.1] at this
          have : n = fst0 W dg := by omega
          rw [this]⟩ (NN_gt (by show ug W 0 - _ < 100000; omega))
  obtain ⟨r, er, hr⟩ := key
  have er' : m5_settled_l11 w (b2i (aw W (fst0 W dg))) NN m1 = some r := er
  unfold m5_settled
  rw [e1, Option.bind_some, m_wayAnswer hw12 hM hY h0.1, Option.bind_some, er', Option.bind_some]
  rcases hr with ⟨m', rfl, g1, g2⟩ | ⟨m', rfl, g1, g2⟩
  · exact ⟨m', by rw [g2]; rfl, g1⟩
  · refine ⟨m', ?_, g1⟩
    rw [g2, w32_b2i]
    simp only [Sum.elim_inr]
    unfold aw
    cases ansO W (val0 W (fst0 W dg)) <;> rfl
theorem m_countWays {m : Mu} {w : Nat} {W : Wv} {dg : Nat → Int} (hw : slc m w = W) (hw12 : w ≤ 13) (hM : WM W) (hd : ∀ f, f < nF W → m.2 76 f = dg f) (hd2 : ∀ f, f < nF W → -1 ≤ dg f ∧ dg f < nS W f) : ∃ m', m5_countWays w m = some m' ∧ mfr [] [77, 78] m m' ∧ m'.2 78 0 = (cntA W dg false (ug W 0) : Nat) ∧ m'.2 78 1 = (cntA W dg true (ug W 0) : Nat) := by
  have hS : ∀ f, f < nF W → 1 ≤ nS W f := fun f hf => (nS_e hM hf).2.1
  have h0 := (fst_in hS (fun f hf => (hd2 f hf).2)).1
  have hT : ug W 0 ≤ 2000 := by have := hM.2.2.2.2.2.2.2.1; rw [← ug_0] at this; omega
  obtain ⟨m1, e1, h1, hY⟩ := m_firstWay (m := ma (ma m 78 0 0) 78 1 0) (by rw [slc_ma (by omega), slc_ma (by omega)]; exact hw) hw12 hM (fun f hf => by rw [ma_o (by decide), ma_o (by decide)]; exact hd f hf) hd2
  have mono : ∀ {a b : Mu}, mfr [] [77] a b → mfr [] [77, 78] a b := fun q => mfr_up q (fun k hk => hk) (fun k hk => by revert hk; simp; omega)
  have key := loop_ind (fun q (s : Int × Nat × Mu) => m5_countWays_l21 w q s.1 s.2.2) (fun s => 2 * (ug W 0 - s.2.1) + (if s.1 = 0 then 0 else 1)) (fun s => mfr [] [77, 78] m s.2.2 ∧ ((s.1 = 0 ∧ s.2.2.2 78 0 = (cntA W dg false (ug W 0) : Nat) ∧ s.2.2.2 78 1 = (cntA W dg true (ug W 0) : Nat)) ∨ (s.1 = 1 ∧ WY s.2.2 w W dg s.2.1 ∧ inM W dg s.2.1 ∧ s.2.2.2 78 0 = (cntA W dg false s.2.1 : Nat) ∧ s.2.2.2 78 1 = (cntA W dg true s.2.1 : Nat)))) (fun _ m' => mfr [] [77, 78] m m' ∧ m'.2 78 0 = (cntA W dg false (ug W 0) : Nat) ∧ m'.2 78 1 = (cntA W dg true (ug W 0) : Nat)) (by
    rintro q ⟨b, n, s⟩ ⟨g1, g2⟩ ih
    simp only at g1 g2
    show ok (m5_countWays_l21 w (q + 1) b s) _
    unfold m5_countWays_l21
    rcases g2 with ⟨rfl, g3, g4⟩ | ⟨rfl, g3, g4, g5, g6⟩
    · exact ok_pos (by decide) (ok_some ⟨g1, g3, g4⟩)
    · refine ok_neg (by decide) (ok_eq (m_wayAnswer hw12 hM g3 g4.1) ?_)
      rw [w32_b2i]
      have c0 := cntA_le W dg false n
      have c1 := cntA_le W dg true n
      have hn := g4.1
      have hmt := (mt_in g4.1).mpr g4
      have step : ∀ i : Nat, i < 2 → (b2i (aw W n) = i) → ok (m5_countWays_b42 (m5_countWays_l21 w q) w (i : Int) s) (fun m' => mfr [] [77, 78] m m' ∧ m'.2 78 0 = (cntA W dg false (ug W 0) : Nat) ∧ m'.2 78 1 = (cntA W dg true (ug W 0) : Nat)) := by
        intro i hi hb
        unfold m5_countWays_b42
        refine ok_mald i rfl (by omega) (by omega) (ok_mast i rfl (by omega) (by omega) ?_)
        have hY2 : WY (ma s 78 i (s.2 78 i + 1)) w W dg n := ⟨by rw [slc_ma (by omega)]; exact g3.1, fun f hf => by rw [ma_o (by decide)]; exact g3.2.1 f hf, fun f hf => by rw [ma_o (by decide)]; exact g3.2.2 f hf⟩
        have k0 : (ma s 78 i (s.2 78 i + 1)).2 78 0 = (cntA W dg false (n + 1) : Nat) := by
          rw [ma_s]
          simp only [cntA]
          revert hb; cases haw : aw W n <;> intro hb
          · have : i = 0 := by have : (0 : Int) = i := hb; omega
            subst this
            rw [if_pos rfl, if_pos ⟨hmt, rfl⟩, g5]; omega
          · have : i = 1 := by have : (1 : Int) = i := hb; omega
            subst this
            rw [if_neg (by decide), if_neg (fun z => by cases z.2), g5]; omega
        have k1 : (ma s 78 i (s.2 78 i + 1)).2 78 1 = (cntA W dg true (n + 1) : Nat) := by
          rw [ma_s]
          simp only [cntA]
          revert hb; cases haw : aw W n <;> intro hb
          · have : i = 0 := by have : (0 : Int) = i := hb; omega
            subst this
            rw [if_neg (by decide), if_neg (fun z => by cases z.2), g6]; omega
          · have : i = 1 := by have : (1 : Int) = i := hb; omega
            subst this
            rw [if_pos rfl, if_pos ⟨hmt, rfl⟩, g6]; omega
        obtain ⟨m', f1, hN⟩ := m_nextWay hw12 hM hd2 hY2 g4
        have f78 : m'.2 78 = (ma s 78 i (s.2 78 i + 1)).2 78 := f1.2 78 (by decide)
        have fr : mfr [] [77, 78] m m' := mfr_tr (mfr_ma g1 (by decide)) (mono f1)
        rcases hN with ⟨e, -, -, hmax⟩ | ⟨n1, e, y1, y2, y3, y4⟩
        · refine ok_eq e ?_
          have gap : ∀ a, cntA W dg a (ug W 0) = cntA W dg a (n + 1) := fun a => cntA_gap W dg a (ug W 0) (by omega) (fun n' h1 h2 => by
            cases hh : mt W dg n'
            · rfl
            · have := hmax n' ((mt_in h2).mp hh); omega)
          refine ih (0, n, m') ⟨fr, Or.inl ⟨rfl, ?_, ?_⟩⟩ ?_
          · show m'.2 78 0 = _
            rw [f78, gap]; exact k0
          · show m'.2 78 1 = _
            rw [f78, gap]; exact k1
          · show 2 * (ug W 0 - n) + (if (0 : Int) = 0 then 0 else 1) < 2 * (ug W 0 - n) + (if (1 : Int) = 0 then 0 else 1)
            simp
        · refine ok_eq e ?_
          have n1l := y2.1
          have gap : ∀ a, cntA W dg a n1 = cntA W dg a (n + 1) := fun a => cntA_gap W dg a n1 (by omega) (fun n' h1 h2 => by
            cases hh : mt W dg n'
            · rfl
            · have := y4 n' ((mt_in (by omega)).mp hh) (by omega); omega)
          refine ih (1, n1, m') ⟨fr, Or.inr ⟨rfl, y1, y2, ?_, ?_⟩⟩ ?_
          · show m'.2 78 0 = _
            rw [f78, gap]; exact k0
          · show m'.2 78 1 = _
            rw [f78, gap]; exact k1
          · show 2 * (ug W 0 - n1) + (if (1 : Int) = 0 then 0 else 1) < 2 * (ug W 0 - n) + (if (1 : Int) = 0 then 0 else 1)
            simp
            omega
      refine ok_ite (fun hz => step 0 (by omega) hz) (fun hz => step 1 (by omega) ?_)
      show b2i (ansO W (val0 W n)) = 1
      revert hz; cases ansO W (val0 W n) <;> simp [b2i]) NN (1, fst0 W dg, m1) ⟨mfr_tr (mfr_ma (mfr_ma mfr_rf (by decide)) (by decide)) (mono h1), Or.inr ⟨rfl, hY, h0, ?_, ?_⟩⟩ (NN_gt (by show 2 * (ug W 0 - _) + (if (1 : Int) = 0 then 0 else 1) < 100000; simp; omega))
  · obtain ⟨m', e2, h2⟩ := key
    refine ⟨m', ?_, h2⟩
    unfold m5_countWays
    have e2' : m5_countWays_l21 w NN 1 m1 = some m' := e2
    exact ok_is (ok_mast 0 rfl (by omega) (by omega) (ok_mast 1 rfl (by omega) (by omega) (ok_eq e1 (ok_eq e2' (ok_some rfl)))))
  · have gap : ∀ a, cntA W dg a (fst0 W dg) = cntA W dg a 0 := fun a => cntA_gap W dg a (fst0 W dg) (Nat.zero_le _) (fun n' _ h2 => by
      cases hh : mt W dg n'
      · rfl
      · have hin := (mt_in (W := W) (dg := dg) (by have := h0.1; omega)).mp hh
        have := fst_min hS (fun f hf => (hd2 f hf).2) hin (nF W) 0 (by omega)
        rw [Nat.mod_eq_of_lt hin.1, Nat.mod_eq_of_lt h0.1] at this
        omega)
    show m1.2 78 0 = _
    rw [h1.2 78 (by decide), gap]
    rfl
  · have gap : ∀ a, cntA W dg a (fst0 W dg) = cntA W dg a 0 := fun a => cntA_gap W dg a (fst0 W dg) (Nat.zero_le _) (fun n' _ h2 => by
      cases hh : mt W dg n'
      · rfl
      · have hin := (mt_in (W := W) (dg := dg) (by have := h0.1; omega)).mp hh
        have := fst_min hS (fun f hf => (hd2 f hf).2) hin (nF W) 0 (by omega)
        rw [Nat.mod_eq_of_lt hin.1, Nat.mod_eq_of_lt h0.1] at this
        omega)
    show m1.2 78 1 = _
    rw [h1.2 78 (by decide), gap]
    rfl

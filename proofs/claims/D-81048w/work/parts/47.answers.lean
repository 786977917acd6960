/-! THE TWIN'S ANSWERS: meanings, clauses, and the constancy within cells -/
theorem seg_mem {W : Wv} {i j : Int} {q : Nd} (hi : 0 ≤ i) (hq : q ∈ seg W i j) : ∃ k : Nat, i ≤ k ∧ (k : Int) < j ∧ q = nd W k := by
  unfold seg at hq
  rw [List.mem_map] at hq
  obtain ⟨k, hk, rfl⟩ := hq
  rw [List.mem_range] at hk
  exact ⟨i.toNat + k, by omega, by omega, rfl⟩
theorem runN_cg {v v' a a' : Nat → Int} : ∀ (ns : List Nd) (st : List Bool), (∀ q ∈ ns, q.1 = 0 → hS q.2.2.1 (v q.2.1.toNat) q.2.2.2 = hS q.2.2.1 (v' q.2.1.toNat) q.2.2.2) → (∀ q ∈ ns, q.1 = 1 → a q.2.1.toNat = a' q.2.1.toNat) → runN v a ns st = runN v' a' ns st := by
  intro ns
  induction ns with
  | nil => intro st _ _; rfl
  | cons q t ih =>
    intro st h1 h2
    simp only [runN]
    have e : stepN v a q st = stepN v' a' q st := by
      unfold stepN
      by_cases h0 : q.1 = 0
      · rw [if_pos h0, if_pos h0, h1 q (by simp) h0]
      · rw [if_neg h0, if_neg h0]
        by_cases h3 : q.1 = 1
        · rw [if_pos h3, if_pos h3, h2 q (by simp) h3]
        · rw [if_neg h3, if_neg h3]
    rw [e]
    exact ih _ (fun q hq => h1 q (by simp [hq])) (fun q hq => h2 q (by simp [hq]))
theorem tru_cg {v v' a a' : Nat → Int} {ns : List Nd} (h1 : ∀ q ∈ ns, q.1 = 0 → hS q.2.2.1 (v q.2.1.toNat) q.2.2.2 = hS q.2.2.1 (v' q.2.1.toNat) q.2.2.2) (h2 : ∀ q ∈ ns, q.1 = 1 → a q.2.1.toNat = a' q.2.1.toNat) : tru v a ns = tru v' a' ns := by
  unfold tru
  rw [runN_cg ns [] h1 h2]
theorem mnA_lt {W : Wv} {v : Nat → Int} {i k : Nat} (hk : k < i) : ∀ d, mnA W v (i + d) k = mnA W v i k := by
  intro d
  induction d with
  | zero => rfl
  | succ d ih =>
    show mnA W v (i + d + 1) k = _
    simp only [mnA]
    rw [if_neg (by omega), ih]
theorem mnA_01 (W : Wv) (v : Nat → Int) : ∀ i k, mnA W v i k = 0 ∨ mnA W v i k = 1 := by
  intro i
  induction i with
  | zero => intro k; exact Or.inl rfl
  | succ i ih =>
    intro k
    simp only [mnA]
    split
    · cases tru v (mnA W v i) (seg W (W 21 i) (W 22 i)) <;> simp [b2i]
    · exact ih k
/-- what of it does not hang on starts and answers -/
def WM0 (W : Wv) : Prop :=
  (0 ≤ W 12 0 ∧ W 12 0 ≤ 8 ∧ 0 ≤ W 19 0 ∧ W 19 0 ≤ 12 ∧ 0 ≤ W 23 0 ∧ W 23 0 ≤ 24 ∧ 0 ≤ W 27 0 ∧ W 27 0 ≤ 24 ∧ 0 ≤ W 33 0 ∧ W 33 0 ≤ 300) ∧
  (∀ f, f < nF W → 0 ≤ W 14 f ∧ W 14 f ≤ 2 ∧ 0 ≤ W 15 f ∧ W 15 f ≤ 6 ∧ (W 14 f ≠ 1 → W 15 f = 0) ∧ (W 14 f = 1 → 2 ≤ W 15 f ∧ W 17 f = 0 ∧ W 18 f = W 15 f - 1) ∧ (W 14 f = 0 → W 17 f = 0 ∧ W 18 f = 1) ∧ (W 14 f = 2 → 0 ≤ W 17 f ∧ W 17 f < W 18 f ∧ W 18 f ≤ 999999999)) ∧
  (∀ k, k < nM W → sgO W k (W 21 k) (W 22 k)) ∧
  (∀ k, k < nC W → 0 ≤ W 24 k ∧ W 24 k ≤ 2 ∧ sgO W (W 19 0) (W 25 k) (W 26 k)) ∧
  (∀ k, k < nP W → 15 ≤ W 28 k ∧ W 28 k ≤ 19 ∧ (if W 28 k = 18 then 1 else 0) ≤ W 29 k ∧ W 29 k ≤ 9999999 ∧ (W 30 k = W 31 k ∨ ((W 28 k = 16 ∨ W 28 k = 17) ∧ sgO W (W 19 0) (W 30 k) (W 31 k)))) ∧
  (smO (W 32 0) 99999999 ∧ smO (W 32 1) 1000 ∧ smO (W 32 2) 99999999 ∧ smO (W 32 3) 99999999 ∧ smO (W 32 4) 99999999 ∧ ∀ k, k ≤ nP W → tmB W k ≤ 3)
theorem WM_0 {W : Wv} (h : WM W) : WM0 W := ⟨h.1, h.2.1, h.2.2.1, h.2.2.2.1, h.2.2.2.2.1, h.2.2.2.2.2.1⟩
/-- a segment in order, on the twin's side -/
theorem m_truth0 {m : Mu} {w : Nat} {W : Wv} {nm i j : Int} (hw : slc m w = W) (hw12 : w ≤ 13) (hM : WM0 W) (hnm : nm ≤ 12) (hs : sgO W nm i j) (hv : ∀ f : Nat, (f : Int) < W 12 0 → w32 (m.2 59 f) = m.2 59 f) {a : Nat → Int} (ha : ∀ k : Nat, (k : Int) < nm → m.2 61 k = a k ∧ (a k = 0 ∨ a k = 1)) : ∃ m', m5_isTrue w i j m = some (b2i (tru (m.2 59) a (seg W i j)), m') ∧ mfr [] [60] m m' := by
  obtain ⟨s1, s2, s3, s4, s5⟩ := hs
  have hM1 := hM.1
  obtain ⟨i', rfl⟩ : ∃ n : Nat, i = n := ⟨i.toNat, by omega⟩
  obtain ⟨j', rfl⟩ : ∃ n : Nat, j = n := ⟨j.toNat, by omega⟩
  obtain ⟨m', e, f⟩ := m_isTrue (m := m) (w := w) (i := i') (j := j') (W := W) (nm := nm) hw hw12 (by omega) hnm (by omega) (by omega) s4 s5 hv (fun k hk => by obtain ⟨h1, h2⟩ := ha k hk; rw [h1]; exact h2)
  refine ⟨m', ?_, f⟩
  rw [e, tru_cg (v := m.2 59) (v' := m.2 59) (a := m.2 61) (a' := a) (fun q _ _ => rfl) (fun q hq h1 => by
    have := (s5 q hq).2.2.2 h1
    exact (ha q.2.1.toNat (by omega)).1)]
theorem m_findMeant0 {m : Mu} {w : Nat} {W : Wv} (hw : slc m w = W) (hw12 : w ≤ 13) (hM : WM0 W) (hv : ∀ f : Nat, (f : Int) < W 12 0 → w32 (m.2 59 f) = m.2 59 f) : ∃ m', m5_findMeant w m = some m' ∧ mfr [] [60, 61] m m' ∧ ∀ k, k < nM W → m'.2 61 k = mnO W (m.2 59) k := by
  have hM1 := hM.1
  have e19 : W 19 0 = (nM W : Int) := by unfold nM; omega
  have key := loop_ind (fun q (t : Nat × Mu) => m5_findMeant_l2 w q (t.1 : Int) t.2) (fun t => nM W - t.1) (fun t => t.1 ≤ nM W ∧ mfr [] [60, 61] m t.2 ∧ ∀ k, k < t.1 → t.2.2 61 k = mnA W (m.2 59) t.1 k) (fun _ m' => mfr [] [60, 61] m m' ∧ ∀ k, k < nM W → m'.2 61 k = mnO W (m.2 59) k) (by
    rintro q ⟨i, t⟩ ⟨g1, g2, g3⟩ ih
    simp only at g1 g2 g3
    show ok (m5_findMeant_l2 w (q + 1) (i : Int) t) _
    unfold m5_findMeant_l2
    have hs : slc t w = W := by rw [← hw]; exact slc_of (fun j q1 q2 => g2.2 j (by simp; omega))
    have t59 : t.2 59 = m.2 59 := g2.2 59 (by decide)
    refine ok_eq (m_sl (w := w) (k := 19) (j := 0) (by decide) (by show (w : Int) = ((1 * w + 0 : Nat) : Int); omega) (by show 1 * w + 0 < 14; omega) (by omega)) ?_
    rw [hs, e19, w32_n (by omega), w32_n (by omega)]
    refine ok_ite (fun hc => ok_some ?_) (fun hc => ?_)
    · have : i = nM W := by omega
      subst this
      exact ⟨g2, g3⟩
    · have hi : i < nM W := by omega
      refine ok_eq (m_sl (w := w) (k := 21) (j := i) (by show i < 12; omega) (by show (12 : Int) * w + i = ((12 * w + i : Nat) : Int); omega) (by show 12 * w + i < 168; omega) (by omega)) ?_
      refine ok_eq (m_sl (w := w) (k := 22) (j := i) (by show i < 12; omega) (by show (12 : Int) * w + i = ((12 * w + i : Nat) : Int); omega) (by show 12 * w + i < 168; omega) (by omega)) ?_
      rw [hs]
      obtain ⟨m2, e2, f2⟩ := m_truth0 (a := mnA W (m.2 59) i) hs hw12 hM (nm := (i : Int)) (by omega) (hM.2.2.1 i hi) (by rw [t59]; exact hv) (fun k hk => ⟨g3 k (by omega), mnA_01 W _ i k⟩)
      refine ok_eq e2 (ok_mast i rfl (by omega) (by omega) ?_)
      show ok (m5_findMeant_l2 w q ((i : Int) + 1) (ma m2 61 i (nz (b2i (tru (t.2 59) (mnA W (m.2 59) i) (seg W (W 21 i) (W 22 i))))))) _
      rw [nz_b, t59]
      refine ih (i + 1, ma m2 61 i _) ⟨by show i + 1 ≤ nM W; omega, mfr_ma (mfr_tr g2 (mfr_up f2 (fun k hk => hk) (fun k hk => by revert hk; simp; omega))) (by decide), fun k hk => ?_⟩ (by show nM W - (i + 1) < nM W - i; omega)
      show (ma m2 61 i _).2 61 k = mnA W (m.2 59) (i + 1) k
      rw [ma_s]
      simp only [mnA]
      by_cases hki : k = i
      · rw [if_pos hki, if_pos hki]
      · rw [if_neg hki, if_neg hki, f2.2 61 (by decide)]
        exact g3 k (by have hk : k < i + 1 := hk; omega)) NN (0, m) ⟨Nat.zero_le _, mfr_rf, fun k hk => absurd hk (Nat.not_lt_zero _)⟩ (NN_gt (by show nM W - 0 < 100000; omega))
  obtain ⟨m', e, h1, h2⟩ := key
  refine ⟨m', ?_, h1, h2⟩
  unfold m5_findMeant
  have e' : m5_findMeant_l2 w NN 0 m = some m' := e
  rw [e']; rfl
theorem m_answers0 {m : Mu} {w : Nat} {W : Wv} (hw : slc m w = W) (hw12 : w ≤ 13) (hM : WM0 W) (hv : ∀ f : Nat, (f : Int) < W 12 0 → w32 (m.2 59 f) = m.2 59 f) : ∃ m', m5_answers w m = some (b2i (ansO W (m.2 59)), m') ∧ mfr [62] [60, 61] m m' ∧ m'.1 62 = decO W (m.2 59) := by
  have hM1 := hM.1
  obtain ⟨m1, e1, f1, h61⟩ := m_findMeant0 hw hw12 hM hv
  have e23 : W 23 0 = (nC W : Int) := by unfold nC; omega
  generalize hvv : m.2 59 = vv at *
  have key := loop_ind (fun q (t : Nat × Mu) => m5_answers_l17 w q (b2i (clF W vv t.1).1) (b2i (clF W vv t.1).2.1) (t.1 : Int) t.2) (fun t => nC W - t.1) (fun t => t.1 ≤ nC W ∧ mfr [62] [60] m1 t.2 ∧ t.2.1 62 = (clF W vv t.1).2.2) (fun _ r => r.1 = b2i (ansO W vv) ∧ mfr [62] [60] m1 r.2 ∧ r.2.1 62 = decO W vv) (by
    rintro q ⟨i, t⟩ ⟨g1, g2, g3⟩ ih
    simp only at g1 g2 g3
    show ok (m5_answers_l17 w (q + 1) (b2i (clF W vv i).1) (b2i (clF W vv i).2.1) (i : Int) t) _
    unfold m5_answers_l17
    have hs : slc t w = W := by rw [← hw, ← slc_of (m := m) (m' := m1) (fun j q1 q2 => f1.2 j (by simp; omega))]; exact slc_of (fun j q1 q2 => g2.2 j (by simp; omega))
    have t59 : t.2 59 = vv := by rw [g2.2 59 (by decide), f1.2 59 (by decide)]; exact hvv
    have t61 : t.2 61 = m1.2 61 := g2.2 61 (by decide)
    refine ok_eq (m_sl (w := w) (k := 23) (j := 0) (by decide) (by show (w : Int) = ((1 * w + 0 : Nat) : Int); omega) (by show 1 * w + 0 < 14; omega) (by omega)) ?_
    rw [hs, e23, w32_n (by omega), w32_n (by omega)]
    refine ok_ite (fun hc => ok_some ?_) (fun hc => ?_)
    · have : i = nC W := by omega
      subst this
      exact ⟨rfl, g2, g3⟩
    · have hi : i < nC W := by omega
      refine ok_eq (m_sl (w := w) (k := 25) (j := i) (by show i < 24; omega) (by show (24 : Int) * w + i = ((24 * w + i : Nat) : Int); omega) (by show 24 * w + i < 336; omega) (by omega)) ?_
      refine ok_eq (m_sl (w := w) (k := 26) (j := i) (by show i < 24; omega) (by show (24 : Int) * w + i = ((24 * w + i : Nat) : Int); omega) (by show 24 * w + i < 336; omega) (by omega)) ?_
      rw [hs]
      obtain ⟨k1, k2, k3⟩ := hM.2.2.2.1 i hi
      obtain ⟨m2, e2, f2⟩ := m_truth0 (a := mnO W vv) hs hw12 hM (by omega) k3 (by rw [t59]; exact hv) (fun k hk => ⟨by rw [t61]; exact h61 k (by unfold nM; omega), mnA_01 W _ _ k⟩)
      rw [t59] at e2
      have fr : mfr [62] [60] m1 m2 := mfr_tr g2 (mfr_up f2 (fun k hk => by cases hk) (fun k hk => hk))
      have h2 : slc m2 w = W := by rw [← hs]; exact slc_of (fun j q1 q2 => f2.2 j (by simp; omega))
      have r24 : mald m2 24 336 (24 * (w : Int) + i) = some (W 24 i) := by
        rw [← h2]; exact m_sl (w := w) (k := 24) (j := i) (by show i < 24; omega) (by show (24 : Int) * w + i = ((24 * w + i : Nat) : Int); omega) (by show 24 * w + i < 336; omega) (by omega)
      have w24 : w32 (W 24 i) = W 24 i := w32_id (by omega) (by omega)
      have g62 : m2.1 62 = (clF W vv i).2.2 := by rw [f2.1 62 (by simp)]; exact g3
      refine ok_eq e2 ?_
      show ok (if w32 (b2i (tru vv (mnO W vv) (seg W (W 25 i) (W 26 i)))) = 0 then _ else _) _
      rw [w32_b2i]
      generalize hT : tru vv (mnO W vv) (seg W (W 25 i) (W 26 i)) = T at *
      generalize hcl : clF W vv i = cl at *
      have skip : clF W vv (i + 1) = cl → ok (m5_answers_l17 w q (b2i cl.1) (b2i cl.2.1) ((i : Int) + 1) m2) (fun r => r.1 = b2i (ansO W vv) ∧ mfr [62] [60] m1 r.2 ∧ r.2.1 62 = decO W vv) := by
        intro e
        have := ih (i + 1, m2) ⟨by show i + 1 ≤ nC W; omega, fr, by show m2.1 62 = _; rw [e]; exact g62⟩ (by show nC W - (i + 1) < nC W - i; omega)
        simp only [e] at this
        exact this
      have take : clF W vv (i + 1) = (decide (W 24 i ≠ 1), cl.2.1 || decide (W 24 i = 0), (i : Int) + 1) → ok (m5_answers_b80 (m5_answers_l17 w q) w (b2i cl.2.1) (i : Int) (24 * (w : Int) + i) m2) (fun r => r.1 = b2i (ansO W vv) ∧ mfr [62] [60] m1 r.2 ∧ r.2.1 62 = decO W vv) := by
        intro e
        have fin : ok (m5_answers_l17 w q (b2i (decide (W 24 i ≠ 1))) (b2i (cl.2.1 || decide (W 24 i = 0))) ((i : Int) + 1) (ms m2 62 ((i : Int) + 1))) (fun r => r.1 = b2i (ansO W vv) ∧ mfr [62] [60] m1 r.2 ∧ r.2.1 62 = decO W vv) := by
          have := ih (i + 1, ms m2 62 ((i : Int) + 1)) ⟨by show i + 1 ≤ nC W; omega, mfr_ms fr (by simp), by show (ms m2 62 ((i : Int) + 1)).1 62 = _; rw [e, ms_1, if_pos rfl]⟩ (by show nC W - (i + 1) < nC W - i; omega)
          simp only [e] at this
          exact this
        have b96 : ∀ x : Int, x = b2i (decide (W 24 i ≠ 1)) → ok (m5_answers_b96 (m5_answers_l17 w q) w (b2i cl.2.1) (i : Int) (24 * (w : Int) + i) x m2) (fun r => r.1 = b2i (ansO W vv) ∧ mfr [62] [60] m1 r.2 ∧ r.2.1 62 = decO W vv) := by
          rintro x rfl
          unfold m5_answers_b96
          rw [w32_b2i]
          cases hcc : cl.2.1
          · rw [hcc] at fin
            refine ok_pos rfl (ok_eq r24 ?_)
            rw [w24]
            refine ok_ite (fun hz => ?_) (fun hz => ?_)
            · rw [show (false || decide (W 24 i = 0)) = true by simp [hz]] at fin
              exact fin
            · rw [show (false || decide (W 24 i = 0)) = false by simp [hz]] at fin
              exact fin
          · rw [hcc] at fin
            exact ok_neg (by decide) fin
        unfold m5_answers_b80
        refine ok_eq r24 ?_
        rw [w24]
        exact ok_ite (fun hz => b96 0 (by simp [hz, b2i])) (fun hz => b96 1 (by simp [hz, b2i]))
      cases T
      · refine ok_pos rfl (skip ?_)
        simp only [clF]
        rw [hT, hcl, if_pos (Or.inl rfl)]
      · refine ok_neg (by decide) (ok_eq r24 ?_)
        rw [w24]
        refine ok_ite (fun h24 => ?_) (fun h24 => ?_)
        · rw [w32_b2i]
          cases hcc : cl.2.1
          · rw [hcc] at skip
            refine ok_pos rfl (skip ?_)
            simp only [clF]
            rw [hT, hcl, if_pos (Or.inr ⟨h24, hcc⟩)]
          · rw [hcc] at take
            refine ok_neg (by decide) (take ?_)
            simp only [clF]
            rw [hT, hcl, hcc, if_neg (by simp)]
        · refine take ?_
          simp only [clF]
          rw [hT, hcl, if_neg (by simp [h24])]) NN (0, ms m1 62 0) ⟨Nat.zero_le _, mfr_ms mfr_rf (by simp), by show (ms m1 62 0).1 62 = _; rw [ms_1, if_pos rfl]; rfl⟩ (NN_gt (by show nC W - 0 < 100000; omega))
  obtain ⟨⟨r1, r2⟩, e, h1, h2, h3⟩ := key
  simp only at h1 h2 h3
  refine ⟨r2, ?_, mfr_tr (mfr_up f1 (fun k hk => by cases hk) (fun k hk => hk)) (mfr_up h2 (fun k hk => hk) (fun k hk => by revert hk; simp; omega)), h3⟩
  unfold m5_answers
  have e' : m5_answers_l17 w NN 0 0 0 (ms m1 62 0) = some (r1, r2) := e
  rw [e1, Option.bind_some, Option.bind_some, e', Option.bind_some]
  show (if w32 r1 = 0 ∨ w32 r1 = 1 then some (r1, r2) else none) = _
  rw [h1, w32_b2i, if_pos (by cases ansO W vv <;> simp [b2i])]
/-! constancy -/
theorem m_truth {m : Mu} {w : Nat} {W : Wv} {nm i j : Int} (hw : slc m w = W) (hw12 : w ≤ 13) (hM : WM W) (hnm : nm ≤ 12) (hs : sgO W nm i j) (hv : ∀ f : Nat, (f : Int) < W 12 0 → w32 (m.2 59 f) = m.2 59 f) {a : Nat → Int} (ha : ∀ k : Nat, (k : Int) < nm → m.2 61 k = a k ∧ (a k = 0 ∨ a k = 1)) : ∃ m', m5_isTrue w i j m = some (b2i (tru (m.2 59) a (seg W i j)), m') ∧ mfr [] [60] m m' := m_truth0 hw hw12 (WM_0 hM) hnm hs hv ha
theorem m_findMeant {m : Mu} {w : Nat} {W : Wv} (hw : slc m w = W) (hw12 : w ≤ 13) (hM : WM W) (hv : ∀ f : Nat, (f : Int) < W 12 0 → w32 (m.2 59 f) = m.2 59 f) : ∃ m', m5_findMeant w m = some m' ∧ mfr [] [60, 61] m m' ∧ ∀ k, k < nM W → m'.2 61 k = mnO W (m.2 59) k := m_findMeant0 hw hw12 (WM_0 hM) hv
theorem m_answers {m : Mu} {w : Nat} {W : Wv} (hw : slc m w = W) (hw12 : w ≤ 13) (hM : WM W) (hv : ∀ f : Nat, (f : Int) < W 12 0 → w32 (m.2 59 f) = m.2 59 f) : ∃ m', m5_answers w m = some (b2i (ansO W (m.2 59)), m') ∧ mfr [62] [60, 61] m m' ∧ m'.1 62 = decO W (m.2 59) := m_answers0 hw hw12 (WM_0 hM) hv
def inC (W : Wv) (v : Nat → Int) (c : Nat) : Prop := ∀ f, f < nF W → W 38 (608 * f + dig W c f) ≤ v f ∧ v f ≤ W 18 f ∧ (dig W c f + 1 < nS W f → v f < W 38 (608 * f + (dig W c f + 1)))
theorem tru_cell {W : Wv} (hM : WM W) {v : Nat → Int} {c : Nat} (h : inC W v c) {nm i j : Int} (hs : sgO W nm i j) {a a' : Nat → Int} (ha : ∀ k : Nat, (k : Int) < nm → a k = a' k) : tru v a (seg W i j) = tru (val0 W c) a' (seg W i j) := by
  obtain ⟨s1, s2, s3, s4, s5⟩ := hs
  have hM1 := hM.1
  have hSn : ∀ f, f < nF W → 1 ≤ nS W f := fun f hf => (nS_e hM hf).2.1
  refine tru_cg (fun q hq h0 => ?_) (fun q hq h1 => ?_)
  · have ho := (s5 q hq).2.2.1 h0
    obtain ⟨k, k1, k2, rfl⟩ := seg_mem s1 hq
    have ho : 0 ≤ W 35 k ∧ W 35 k < W 12 0 ∧ _ := ho
    have hf : (W 35 k).toNat < nF W := by unfold nF; omega
    obtain ⟨c1, c2, c3⟩ := h _ hf
    exact hM.2.2.2.2.2.2.2.2.2.1 (W 35 k).toNat (dig W c (W 35 k).toNat) (v (W 35 k).toNat) hf (dig_lt hSn hf) c1 c2 c3 k (by omega) h0 (by omega)
  · have ho := (s5 q hq).2.2.2 h1
    exact ha _ (by omega)
theorem mnA_cell {W : Wv} (hM : WM W) {v : Nat → Int} {c : Nat} (h : inC W v c) : ∀ i, i ≤ nM W → ∀ k, mnA W v i k = mnA W (val0 W c) i k := by
  intro i
  induction i with
  | zero => intro _ k; rfl
  | succ i ih =>
    intro hi k
    simp only [mnA]
    split
    · rw [tru_cell hM h (hM.2.2.1 i (by omega)) (fun k _ => ih (by omega) k)]
    · exact ih (by omega) k
theorem clF_cell {W : Wv} (hM : WM W) {v : Nat → Int} {c : Nat} (h : inC W v c) : ∀ i, i ≤ nC W → clF W v i = clF W (val0 W c) i := by
  intro i
  induction i with
  | zero => intro _; rfl
  | succ i ih =>
    intro hi
    simp only [clF]
    rw [ih (by omega), tru_cell (a := mnO W v) (a' := mnO W (val0 W c)) hM h (hM.2.2.2.1 i (by omega)).2.2 (fun k _ => mnA_cell hM h (nM W) (Nat.le_refl _) k)]
theorem cel_in {W : Wv} {f : Nat} {v : Int} (h0 : W 38 (608 * f) ≤ v) : ∀ k, W 38 (608 * f + cellD W f v k) ≤ v ∧ (cellD W f v k < k → v < W 38 (608 * f + (cellD W f v k + 1))) := by
  intro k
  induction k with
  | zero => exact ⟨h0, fun h => absurd h (Nat.not_lt_zero _)⟩
  | succ k ih =>
    simp only [cellD]
    by_cases h : W 38 (608 * f + (k + 1)) ≤ v
    · rw [if_pos h]; exact ⟨h, fun h => absurd h (Nat.lt_irrefl _)⟩
    · rw [if_neg h]
      refine ⟨ih.1, fun hlt => ?_⟩
      by_cases he : cellD W f v k = k
      · rw [he]; omega
      · exact ih.2 (by have := cellD_le W f v k; omega)
/-- values within their bounds lie in the cell of their digits -/
theorem inC_of {W : Wv} (hM : WM W) {v : Nat → Int} (hv : ∀ f, f < nF W → W 17 f ≤ v f ∧ v f ≤ W 18 f) {c : Nat} (hc : ∀ f, f < nF W → dig W c f = cel W f (v f)) : inC W v c := by
  intro f hf
  rw [hc f hf]
  have e0 := (hM.2.2.2.2.2.2.1 f hf).2.2.1
  obtain ⟨h1, h2⟩ := hv f hf
  have h3 := cel_in (W := W) (f := f) (v := v f) (by omega) (nS W f - 1)
  exact ⟨h3.1, h2, fun h => h3.2 (by unfold cel at h; omega)⟩

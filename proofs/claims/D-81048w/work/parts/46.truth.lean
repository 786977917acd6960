/-! THE TWIN'S TRUTH: its run over a row of nodes -/
theorem nz_b {b : Bool} : nz (b2i b) = b2i b := by cases b <;> decide
theorem seg_nil {W : Wv} {i j : Nat} (h : j ≤ i) : seg W i j = [] := by
  unfold seg
  rw [show (j : Int).toNat - (i : Int).toNat = 0 by omega]
  rfl
theorem seg_cons {W : Wv} {i j : Nat} (h : i < j) : seg W i j = nd W i :: seg W ((i + 1 : Nat) : Int) j := by
  unfold seg
  obtain ⟨n, hn⟩ : ∃ n, (j : Int).toNat - (i : Int).toNat = n + 1 := ⟨j - i - 1, by omega⟩
  rw [hn, List.range_succ_eq_map, List.map_cons, List.map_map, show (j : Int).toNat - ((i + 1 : Nat) : Int).toNat = n by omega]
  congr 1
  apply List.map_congr_left
  intro k _
  show nd W ((i : Int).toNat + (k + 1)) = nd W (((i + 1 : Nat) : Int).toNat + k)
  congr 1
  omega
/-- a pile in an array -/
def pil (a : Nat → Int) : List Bool → Prop
  | [] => True
  | b :: t => a t.length = b2i b ∧ pil a t
theorem pil_cg {a a' : Nat → Int} : ∀ st, (∀ i, i < st.length → a' i = a i) → pil a st → pil a' st := by
  intro st
  induction st with
  | nil => intro _ _; trivial
  | cons b t ih =>
    intro h hp
    refine ⟨?_, ih (fun i hi => h i (by simp; omega)) hp.2⟩
    rw [h _ (by simp)]; exact hp.1
theorem m_sign {sg v n : Int} (hs : w32 sg = sg) (hv : w32 v = v) (hn : w32 n = n) : m5_holdsSign sg v n = some (b2i (hS sg v n)) := by
  unfold m5_holdsSign hS
  rw [hs, hv, hn]
  by_cases h0 : sg = 0
  · rw [if_pos h0, if_pos h0]
    by_cases h : v = n
    · rw [if_pos h, decide_eq_true h]; rfl
    · rw [if_neg h, decide_eq_false h]; rfl
  rw [if_neg h0, if_neg h0]
  by_cases h1 : sg = 1
  · rw [if_pos h1, if_pos h1]
    by_cases h : n ≤ v
    · rw [if_pos h, decide_eq_false (by omega)]; rfl
    · rw [if_neg h, decide_eq_true (by omega)]; rfl
  rw [if_neg h1, if_neg h1]
  by_cases h2 : sg = 2
  · rw [if_pos h2, if_pos h2]
    by_cases h : v ≤ n
    · rw [if_pos h, decide_eq_false (by omega)]; rfl
    · rw [if_neg h, decide_eq_true (by omega)]; rfl
  rw [if_neg h2, if_neg h2]
  by_cases h3 : sg = 3
  · rw [if_pos h3, if_pos h3]
    by_cases h : n < v
    · rw [if_pos h, decide_eq_false (by omega)]; rfl
    · rw [if_neg h, decide_eq_true (by omega)]; rfl
  rw [if_neg h3, if_neg h3]
  by_cases h4 : sg = 4
  · rw [if_pos h4, if_pos h4]
    by_cases h : v < n
    · rw [if_pos h, decide_eq_false (by omega)]; rfl
    · rw [if_neg h, decide_eq_true (by omega)]; rfl
  rw [if_neg h4, if_neg h4]
  by_cases h : v = n
  · rw [if_pos h, decide_eq_false (by simp [h])]; rfl
  · rw [if_neg h, decide_eq_true h]; rfl
theorem b2i_n1 {b : Bool} (h : ¬ b2i b = 0) : b = true := by revert h; cases b <;> simp [b2i]
theorem m_isTrue {m : Mu} {w i j : Nat} {W : Wv} {nm : Int} (hw : slc m w = W) (hw12 : w ≤ 13) (hnf : W 12 0 ≤ 8) (hnm : nm ≤ 12) (hij : i < j) (hj : j ≤ 300) (hC : isC (seg W i j)) (hb : ∀ q ∈ seg W i j, okN (W 12 0) nm q) (hv : ∀ f : Nat, (f : Int) < W 12 0 → w32 (m.2 59 f) = m.2 59 f) (hm : ∀ k : Nat, (k : Int) < nm → m.2 61 k = 0 ∨ m.2 61 k = 1) : ∃ m', m5_isTrue w i j m = some (b2i (tru (m.2 59) (m.2 61) (seg W i j)), m') ∧ mfr [] [60] m m' := by
  have key := loop_ind (fun q (t : Nat × List Bool × Mu) => m5_isTrue_l6 w j q (t.2.1.length : Int) (t.1 : Int) t.2.2) (fun t => j - t.1)
    (fun t => t.1 ≤ j ∧ t.2.1.length ≤ t.1 ∧ mfr [] [60] m t.2.2 ∧ pil (t.2.2.2 60) t.2.1 ∧ hgt (seg W t.1 j) t.2.1.length = some 1 ∧ (∀ q ∈ seg W t.1 j, okN (W 12 0) nm q) ∧ runN (m.2 59) (m.2 61) (seg W t.1 j) t.2.1 = [tru (m.2 59) (m.2 61) (seg W i j)])
    (fun _ m' => mfr [] [60] m m' ∧ m'.2 60 0 = b2i (tru (m.2 59) (m.2 61) (seg W i j))) (by
    rintro q ⟨k, st, t⟩ ⟨g1, g2, g3, g4, g5, g6, g7⟩ ih
    simp only at g1 g2 g3 g4 g5 g6 g7
    show ok (m5_isTrue_l6 w j (q + 1) (st.length : Int) (k : Int) t) _
    unfold m5_isTrue_l6
    rw [w32_n (by omega), w32_n (by omega)]
    have hs : slc t w = W := by rw [← hw]; exact slc_of (fun j q1 q2 => g3.2 j (by simp; omega))
    have t59 : t.2 59 = m.2 59 := g3.2 59 (by decide)
    have t61 : t.2 61 = m.2 61 := g3.2 61 (by decide)
    refine ok_ite (fun hc => ok_some ?_) (fun hc => ?_)
    · rw [seg_nil (by omega)] at g7
      simp only [runN] at g7
      subst g7
      exact ⟨g3, g4.1⟩
    · have hk : k < j := by omega
      rw [seg_cons hk] at g5 g6 g7
      have hq := g6 (nd W k) (by simp)
      have g6' : ∀ q ∈ seg W ((k + 1 : Nat) : Int) j, okN (W 12 0) nm q := fun q hq => g6 q (List.mem_cons_of_mem _ hq)
      simp only [runN] at g7
      simp only [hgt] at g5
      have sl : ∀ c, c = 34 ∨ c = 35 ∨ c = 36 ∨ c = 37 → mald t c 33600 (2400 * (w : Int) + k) = some (W c k) := by
        intro c hc
        rw [← hs]
        rcases hc with rfl | rfl | rfl | rfl <;> exact m_sl (by show k < 2400; omega) (by show (2400 : Int) * w + k = ((2400 * w + k : Nat) : Int); omega) (by show 2400 * w + k < 33600; omega) (by omega)
      have ops : (nd W k).1 = W 34 k := rfl
      have op2 : (nd W k).2.1 = W 35 k := rfl
      have op3 : (nd W k).2.2.1 = W 36 k := rfl
      have op4 : (nd W k).2.2.2 = W 37 k := rfl
      obtain ⟨q1, q2, q3, q4⟩ := hq
      rw [ops] at q1 q2 q3 q4 g5
      rw [op2, op3, op4] at q3
      rw [op2] at q4
      refine ok_eq (sl 34 (by simp)) ?_
      rw [w32_id (x := W 34 k) (by omega) (by omega)]
      -- one step of the pile
      have go : ∀ (st' : List Bool) (p : Nat) (b : Bool) (tl : List Bool), st' = b :: tl → p = tl.length → tl.length ≤ k → (∃ c, st = c ++ tl) → hgt (seg W ((k + 1 : Nat) : Int) j) st'.length = some 1 → stepN (m.2 59) (m.2 61) (nd W k) st = st' → ∀ x y : Int, x = (st'.length : Int) → y = (k : Int) + 1 → ok (m5_isTrue_l6 w j q x y (ma t 60 p (b2i b))) (fun m' => mfr [] [60] m m' ∧ m'.2 60 0 = b2i (tru (m.2 59) (m.2 61) (seg W i j))) := by
        rintro st' p b tl rfl rfl hl ⟨c, hc⟩ h1 h2 x y rfl rfl
        have hpt : pil (t.2 60) tl := by
          rw [hc] at g4
          clear hc h1 h2 g7 g5 g2
          induction c with
          | nil => exact g4
          | cons d c ihc => exact ihc g4.2
        refine ih (k + 1, b :: tl, ma t 60 tl.length (b2i b)) ⟨by show k + 1 ≤ j; omega, by show tl.length + 1 ≤ k + 1; omega, mfr_ma g3 (by decide), ⟨by show (ma t 60 tl.length (b2i b)).2 60 tl.length = b2i b; rw [ma_s, if_pos rfl], pil_cg tl (fun a ha => by show (ma t 60 tl.length (b2i b)).2 60 a = t.2 60 a; rw [ma_s, if_neg (by omega)]) hpt⟩, h1, g6', ?_⟩ (by show j - (k + 1) < j - k; omega)
        rw [← h2]; exact g7
      by_cases h0 : W 34 k = 0
      · refine ok_pos h0 ?_
        obtain ⟨z1, z2, z3, z4, z5, z6⟩ := q3 h0
        rw [if_pos (Or.inl h0)] at g5
        refine ok_eq (sl 36 (by simp)) (ok_eq (sl 35 (by simp)) ?_)
        refine ok_mald (W 35 k).toNat (by omega) (by omega) (by omega) (ok_eq (sl 37 (by simp)) ?_)
        rw [t59]
        refine ok_eq (m_sign (w32_id (by omega) (by omega)) (hv _ (by omega)) (w32_id (by omega) (by omega))) ?_
        refine ok_mast st.length rfl (by omega) (by omega) ?_
        rw [nz_b]
        exact go _ st.length _ st rfl rfl (by omega) ⟨[], rfl⟩ g5 (by unfold stepN; rw [if_pos (show (nd W k).1 = 0 from h0)]; rfl) _ _ (by simp) rfl
      refine ok_neg h0 ?_
      by_cases h1 : W 34 k = 1
      · refine ok_pos h1 ?_
        obtain ⟨z1, z2⟩ := q4 h1
        rw [if_pos (Or.inr h1)] at g5
        refine ok_eq (sl 35 (by simp)) ?_
        refine ok_mald (W 35 k).toNat (by omega) (by omega) (by omega) ?_
        rw [t61]
        refine ok_mast st.length rfl (by omega) (by omega) ?_
        have e : nz (m.2 61 (W 35 k).toNat) = b2i (decide (m.2 61 (W 35 k).toNat ≠ 0)) := by
          rcases hm (W 35 k).toNat (by omega) with h | h <;> rw [h] <;> decide
        rw [e]
        exact go _ st.length _ st rfl rfl (by omega) ⟨[], rfl⟩ g5 (by unfold stepN; rw [if_neg (show ¬ (nd W k).1 = 0 from h0), if_pos (show (nd W k).1 = 1 from h1)]; rfl) _ _ (by simp) rfl
      refine ok_neg h1 ?_
      rw [if_neg (by simp [h0, h1])] at g5
      by_cases h2 : W 34 k = 2
      · refine ok_pos h2 ?_
        rw [if_pos h2] at g5
        cases st with
        | nil => simp at g5
        | cons b s =>
          rw [if_pos (by simp)] at g5
          have hl : s.length + 1 ≤ k := g2
          have hr : mald t 60 4100 ((((b :: s).length : Nat) : Int) - 1) = some (b2i b) := by rw [mald_e s.length (by simp) (by omega) (by omega), g4.1]
          refine ok_eq hr ?_
          rw [w32_b2i]
          have st2 : stepN (m.2 59) (m.2 61) (nd W k) (b :: s) = (!b) :: s := by
            unfold stepN
            rw [if_neg (show ¬ (nd W k).1 = 0 from h0), if_neg (show ¬ (nd W k).1 = 1 from h1)]
            show (if (nd W k).1 = 2 then _ else _) = _
            rw [if_pos (show (nd W k).1 = 2 from h2)]
          have fin : ok (m5_isTrue_b140 (m5_isTrue_l6 w j q) w j (((b :: s).length : Nat) : Int) k ((((b :: s).length : Nat) : Int) - 1) (b2i (!b)) t) (fun m' => mfr [] [60] m m' ∧ m'.2 60 0 = b2i (tru (m.2 59) (m.2 61) (seg W i j))) := by
            unfold m5_isTrue_b140
            refine ok_mast s.length (by simp) (by omega) (by omega) ?_
            rw [nz_b]
            exact go ((!b) :: s) s.length (!b) s rfl rfl (by omega) ⟨[b], rfl⟩ g5 st2 _ _ (by simp) rfl
          cases b
          · exact ok_pos rfl fin
          · exact ok_neg (by decide) fin
      refine ok_neg h2 ?_
      rw [if_neg h2] at g5
      cases st with
      | nil => simp at g5
      | cons b s =>
        cases s with
        | nil => simp at g5
        | cons a s =>
          rw [if_pos (by simp)] at g5
          have g5 : hgt (seg W ((k + 1 : Nat) : Int) j) (s.length + 1) = some 1 := by simpa using g5
          have hl : s.length + 2 ≤ k := g2
          have el : (((b :: a :: s).length : Nat) : Int) + -1 = ((s.length + 1 : Nat) : Int) := by simp only [List.length_cons]; omega
          have el2 : ((s.length + 1 : Nat) : Int) - 1 = (s.length : Int) := by omega
          rw [el, el2]
          have ra : mald t 60 4100 (s.length : Int) = some (b2i a) := by rw [mald_e s.length rfl (by omega) (by omega), g4.2.1]
          have rb : mald t 60 4100 ((s.length + 1 : Nat) : Int) = some (b2i b) := by rw [mald_e (s.length + 1) rfl (by omega) (by omega)]; exact congrArg some g4.1
          have st2 : stepN (m.2 59) (m.2 61) (nd W k) (b :: a :: s) = (if W 34 k = 3 then a && b else a || b) :: s := by
            unfold stepN
            rw [if_neg (show ¬ (nd W k).1 = 0 from h0), if_neg (show ¬ (nd W k).1 = 1 from h1)]
            show (if (nd W k).1 = 2 then _ else _) = _
            rw [if_neg (show ¬ (nd W k).1 = 2 from h2)]
            rfl
          have fin : ∀ c : Bool, (if W 34 k = 3 then a && b else a || b) = c → ok ((mast t 60 4100 (s.length : Int) (b2i c)).bind fun u1 => m5_isTrue_l6 w j q ((s.length + 1 : Nat) : Int) ((k : Int) + 1) u1) (fun m' => mfr [] [60] m m' ∧ m'.2 60 0 = b2i (tru (m.2 59) (m.2 61) (seg W i j))) := by
            intro c hc
            refine ok_mast s.length rfl (by omega) (by omega) ?_
            exact go _ s.length c s rfl rfl (by omega) ⟨[b, a], rfl⟩ g5 (by rw [st2, hc]) _ _ (by simp) rfl
          by_cases h3 : W 34 k = 3
          · refine ok_pos h3 (ok_eq ra ?_)
            rw [if_pos h3] at fin
            rw [w32_b2i]
            cases a
            · exact ok_pos rfl (fin false rfl)
            · refine ok_neg (by decide) (ok_eq rb ?_)
              rw [w32_b2i]
              cases b
              · exact ok_pos rfl (fin false rfl)
              · exact ok_neg (by decide) (fin true rfl)
          · refine ok_neg h3 (ok_eq ra ?_)
            rw [if_neg h3] at fin
            rw [w32_b2i]
            cases a
            · refine ok_pos rfl (ok_eq rb ?_)
              rw [w32_b2i]
              cases b
              · exact ok_pos rfl (fin false rfl)
              · exact ok_neg (by decide) (fin true rfl)
            · exact ok_neg (by decide) (fin true rfl)) NN (i, [], m) ⟨by show i ≤ j; omega, Nat.zero_le _, mfr_rf, trivial, hC 0, hb, isC_run hC _ _ _⟩ (NN_gt (by show j - i < 100000; omega))
  obtain ⟨m', e, h1, h2⟩ := key
  refine ⟨m', ?_, h1⟩
  have e' : m5_isTrue_l6 w j NN 0 i m = some m' := e
  unfold m5_isTrue
  have e2 : mald m' 60 4100 0 = some (m'.2 60 0) := mald_e 0 rfl (by omega) (by omega)
  rw [e', Option.bind_some, e2, Option.bind_some, h2, w32_b2i]
  rw [if_pos (by cases tru (m.2 59) (m.2 61) (seg W i j) <;> simp [b2i])]

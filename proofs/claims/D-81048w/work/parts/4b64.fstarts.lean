/-! THE READER: the end: the starts of a fact, on the twin's side -/
theorem m_78 {m0 m : Mu} {w f i n N : Nat} {W : Wv} {l : List Int} (hw : slc m0 w = W) (hw13 : w ≤ 13) (hi : i = 8 * w + f) (hf : f < 8) (hN : W 33 0 = (N : Int)) (hN3 : N ≤ 300) (hl : l.length < 608) (hfk : 0 ≤ W 17 f ∧ W 18 f ≤ 999999999 ∧ W 17 f ≤ W 18 f) (hok : ∀ k, k < N → okN (W 12 0) 12 (nd W k)) (h12 : W 12 0 ≤ 8) (hll : ∀ k, k < N → ∀ s : Nat, s < 2 → W 37 k + s ∈ l) (h : FS m0 i m n (fun x => x = W 17 f) l) : ∃ (n' : Nat) (m' : Mu), m5_findStarts_l78 w f i NN n 0 m = some ((n' : Int), m') ∧ FS m0 i m' n' (stX 2 (W 17 f) (W 18 f) (fun x => ∃ i : Nat, (i : Int) < W 33 0 ∧ thN f (nd W i) x)) l := by
  have key := loop_ind (fun q (s : (Nat × Nat) × Mu) => m5_findStarts_l78 w f i q (s.1.1 : Nat) (s.1.2 : Nat) s.2) (fun s => N - s.1.2) (fun s => s.1.2 ≤ N ∧ FS m0 i s.2 s.1.1 (fun x => x = W 17 f ∨ (W 17 f < x ∧ x ≤ W 18 f ∧ ∃ j, j < s.1.2 ∧ thN f (nd W j) x)) l) (fun _ r => ∃ n' : Nat, r.1 = (n' : Int) ∧ FS m0 i r.2 n' (fun x => x = W 17 f ∨ (W 17 f < x ∧ x ≤ W 18 f ∧ ∃ j, j < N ∧ thN f (nd W j) x)) l) (by
    rintro q ⟨⟨n, k⟩, t⟩ ⟨hk, hF⟩ ih
    dsimp only at hk hF ⊢
    show ok (m5_findStarts_l78 w f i (q + 1) (n : Nat) (k : Nat) t) _
    have hm : ∀ q, q ≠ 38 → slc t w q = W q := fun q hq => by
      rw [← hw]; funext j; unfold slc; rw [hF.1.2.1 q hq]
    unfold m5_findStarts_l78
    have e33 : mald t 33 14 (w : Int) = some (W 33 0) := by
      rw [← hm 33 (by decide)]; exact m_sl (w := w) (k := 33) (j := 0) (by decide) (by show (w : Int) = ((1 * w + 0 : Nat) : Int); omega) (by show 1 * w + 0 < 14; omega) (by omega)
    refine ok_eq e33 ?_
    rw [hN, w32_n (by omega), w32_n (by omega)]
    refine ok_ite (fun hz => ok_some ⟨n, rfl, by rw [show N = k by omega]; exact hF⟩) (fun hz => ?_)
    have hkN : k < N := by omega
    have o := hok k hkN
    have e34 : mald t 34 33600 (2400 * (w : Int) + k) = some (W 34 k) := by
      rw [← hm 34 (by decide)]; exact m_sl (w := w) (k := 34) (j := k) (show k < 2400 by omega) (by show (2400 * (w : Int) + k) = ((2400 * w + k : Nat) : Int); omega) (by show 2400 * w + k < 33600; omega) (by omega)
    have e35 : mald t 35 33600 (2400 * (w : Int) + k) = some (W 35 k) := by
      rw [← hm 35 (by decide)]; exact m_sl (w := w) (k := 35) (j := k) (show k < 2400 by omega) (by show (2400 * (w : Int) + k) = ((2400 * w + k : Nat) : Int); omega) (by show 2400 * w + k < 33600; omega) (by omega)
    have o1 : 0 ≤ W 34 k ∧ W 34 k ≤ 4 := ⟨o.1, o.2.1⟩
    refine ok_eq e34 ?_
    rw [w32_id (x := W 34 k) (by omega) (by omega)]
    have skip : ∀ (hq : ¬ (W 34 k = 0 ∧ W 35 k = (f : Int))), ok (m5_findStarts_l78 w f i q (n : Nat) ((k : Int) + 1) t) (fun r => ∃ n' : Nat, r.1 = (n' : Int) ∧ FS m0 i r.2 n' (fun x => x = W 17 f ∨ (W 17 f < x ∧ x ≤ W 18 f ∧ ∃ j, j < N ∧ thN f (nd W j) x)) l) := fun hq => by
      refine ih ((n, k + 1), t) ⟨by show k + 1 ≤ N; omega, FS_cg hF (fun x => ⟨fun z => z.imp id (fun z => ⟨z.1, z.2.1, ?_⟩), fun z => z.imp id (fun z => ⟨z.1, z.2.1, ?_⟩)⟩)⟩ (by show N - (k + 1) < N - k; omega)
      · obtain ⟨j, j1, j2⟩ := z.2.2
        exact ⟨j, by show j < k + 1; omega, j2⟩
      · obtain ⟨j, j1, j2⟩ := z.2.2
        have j1 : j < k + 1 := j1
        by_cases e : j = k
        · subst e; exact absurd ⟨j2.1, j2.2.1⟩ hq
        · exact ⟨j, by omega, j2⟩
    refine ok_ite (fun hz1 => ?_) (fun hz1 => skip (fun z => hz1 z.1))
    have o2 := o.2.2.1 hz1
    have o2' : 0 ≤ W 35 k ∧ W 35 k < W 12 0 ∧ 0 ≤ W 36 k ∧ W 36 k ≤ 5 ∧ 0 ≤ W 37 k ∧ W 37 k ≤ 999999999 := o2
    refine ok_eq e35 ?_
    rw [w32_id (x := W 35 k) (by omega) (by omega), w32_n (by omega)]
    refine ok_ite (fun hz2 => ?_) (fun hz2 => skip (fun z => hz2 z.2))
    obtain ⟨fu, hfu⟩ : ∃ fu, NN = fu + 1 + 1 + 1 := ⟨NN - 3, by have := NN_ge; omega⟩
    obtain ⟨n1, t1, e1, F1⟩ := m_126 (s := 0) hw hw13 hi hf (show k < 2400 by omega) hl hfk ⟨o2'.2.2.1, o2'.2.2.2.1⟩ o2'.2.2.2.2 hF (by decide) (hll k hkN 0 (by decide)) k (fu + 1 + 1)
    obtain ⟨n2, t2, e2, F2⟩ := m_126 (s := 1) hw hw13 hi hf (show k < 2400 by omega) hl hfk ⟨o2'.2.2.1, o2'.2.2.2.1⟩ o2'.2.2.2.2 F1 (by decide) (hll k hkN 1 (by decide)) k (fu + 1)
    have e3 : m5_findStarts_l126 w f i k (2400 * w + k) NN n 0 t = some ((n2 : Int), t2) := by
      rw [hfu]
      refine e1.trans (e2.trans ?_)
      rw [m5_findStarts_l126.eq_2, if_pos (by decide)]
    refine ok_eq e3 ?_
    refine ih ((n2, k + 1), t2) ⟨by show k + 1 ≤ N; omega, FS_cg F2 (fun x => ?_)⟩ (by show N - (k + 1) < N - k; omega)
    have en : nd W k = (W 34 k, W 35 k, W 36 k, W 37 k) := rfl
    constructor
    · rintro (((z | ⟨z1, z2, j, j1, j2⟩) | z) | z)
      · exact Or.inl z
      · exact Or.inr ⟨z1, z2, j, by show j < k + 1; omega, j2⟩
      · refine Or.inr ⟨z.1, z.2.1, k, by show k < k + 1; omega, hz1, hz2, Or.inl ⟨?_, ?_, ?_⟩⟩
        · have := z.2.2.1; rw [this, en]; simp
        · exact z.2.2.2.1
        · exact z.2.2.2.2
      · refine Or.inr ⟨z.1, z.2.1, k, by show k < k + 1; omega, hz1, hz2, Or.inr ⟨?_, ?_, ?_⟩⟩
        · have := z.2.2.1; rw [this, en]; simp
        · exact z.2.2.2.1
        · exact z.2.2.2.2
    · rintro (z | ⟨z1, z2, j, j1, j2⟩)
      · exact Or.inl (Or.inl (Or.inl z))
      · have j1 : j < k + 1 := j1
        by_cases e : j = k
        · subst e
          rcases j2.2.2 with ⟨y1, y2, y3⟩ | ⟨y1, y2, y3⟩
          · exact Or.inl (Or.inr ⟨z1, z2, by rw [y1, en]; simp, y2, y3⟩)
          · exact Or.inr ⟨z1, z2, by rw [y1, en]; simp, y2, y3⟩
        · exact Or.inl (Or.inl (Or.inr ⟨z1, z2, j, by omega, j2⟩))) NN ((n, 0), m) ⟨Nat.zero_le _, FS_cg h (fun x => ⟨Or.inl, fun z => z.elim id (fun z => by obtain ⟨j, j1, -⟩ := z.2.2; exact absurd j1 (Nat.not_lt_zero _))⟩)⟩ (NN_gt (by show N - 0 < 100000; omega))
  obtain ⟨⟨v, m'⟩, e, n', h1, h2⟩ := key
  have h1 : v = (n' : Int) := h1
  subst h1
  refine ⟨n', m', e, FS_cg h2 (fun x => ?_)⟩
  unfold stX bsX
  rw [if_pos rfl]
  constructor
  · rintro (z | ⟨z1, z2, j, j1, j2⟩)
    · exact Or.inl z
    · exact Or.inr ⟨z1, z2, j, by omega, j2⟩
  · rintro (z | ⟨z1, z2, j, j1, j2⟩)
    · exact Or.inl z
    · exact Or.inr ⟨z1, z2, j, by omega, j2⟩
theorem m_23 {m0 : Mu} {w f i : Nat} {W : Wv} {l : List Int} (hw : slc m0 w = W) (hw13 : w ≤ 13) (hi : i = 8 * w + f) (hf : f < 8) (hl : l.length < 608) (hh : 0 ≤ W 18 f ∧ W 18 f ≤ 5) (hll : ∀ x : Int, 0 ≤ x → x ≤ W 18 f → x ∈ l) : ∃ (n' : Nat) (m' : Mu), m5_findStarts_l23 i NN 0 0 m0 = some ((n' : Int), m') ∧ FS m0 i m' n' (fun x => 0 ≤ x ∧ x ≤ W 18 f) l := by
  have key := loop_ind (fun q (s : (Nat × Nat) × Mu) => m5_findStarts_l23 i q (s.1.1 : Nat) (s.1.2 : Nat) s.2) (fun s => 10 - s.1.2) (fun s => (s.1.2 : Int) ≤ W 18 f + 1 ∧ FS m0 i s.2 s.1.1 (fun x => 0 ≤ x ∧ x < (s.1.2 : Int)) l) (fun _ r => ∃ n' : Nat, r.1 = (n' : Int) ∧ FS m0 i r.2 n' (fun x => 0 ≤ x ∧ x ≤ W 18 f) l) (by
    rintro q ⟨⟨n, k⟩, t⟩ ⟨hk, hF⟩ ih
    dsimp only at hk hF ⊢
    show ok (m5_findStarts_l23 i (q + 1) (n : Nat) (k : Nat) t) _
    unfold m5_findStarts_l23
    have e18 : mald t 18 112 (i : Int) = some (W 18 f) := by
      have : slc t w 18 = W 18 := by rw [← hw]; funext j; unfold slc; rw [hF.1.2.1 18 (by decide)]
      rw [← this]; exact m_sl (w := w) (k := 18) (j := f) (show f < 8 by omega) (by show (i : Int) = ((8 * w + f : Nat) : Int); omega) (by show 8 * w + f < 112; omega) (by omega)
    refine ok_eq e18 ?_
    rw [w32_id (x := W 18 f) (by omega) (by omega), w32_n (by omega)]
    refine ok_ite (fun hz => ok_some ⟨n, rfl, FS_cg hF (fun x => ⟨fun z => ⟨z.1, by have := z.2; omega⟩, fun z => ⟨z.1, by have := z.2; omega⟩⟩)⟩) (fun hz => ?_)
    obtain ⟨n1, t1, e1, F1⟩ := FS_ins (i := i) (v := (k : Int)) (by omega) hl hF (by omega) (hll k (by omega) (by omega))
    refine ok_eq e1 ?_
    refine ih ((n1, k + 1), t1) ⟨by show ((k + 1 : Nat) : Int) ≤ _; omega, FS_cg F1 (fun x => ?_)⟩ (by show 10 - (k + 1) < 10 - k; omega)
    show (0 ≤ x ∧ x < (k : Int)) ∨ x = (k : Int) ↔ 0 ≤ x ∧ x < ((k + 1 : Nat) : Int)
    omega) NN ((0, 0), m0) ⟨by show ((0 : Nat) : Int) ≤ _; omega, mfq_rf, fun x hx => by have h1 : 0 ≤ x := hx.1; have h2 : x < ((0 : Nat) : Int) := hx.2; omega, fun _ => 0, fun j hj => absurd hj (Nat.not_lt_zero _), ⟨fun i j _ hj => absurd hj (Nat.not_lt_zero _), fun x => ⟨fun z => by have h1 : 0 ≤ x := z.1; have h2 : x < ((0 : Nat) : Int) := z.2; omega, fun ⟨k, k1, _⟩ => absurd k1 (Nat.not_lt_zero _)⟩⟩, fun j hj => absurd hj (Nat.not_lt_zero _)⟩ (NN_gt (by show 10 - 0 < 100000; omega))
  obtain ⟨⟨v, m'⟩, e, n', h1, h2⟩ := key
  have h1 : v = (n' : Int) := h1
  subst h1
  exact ⟨n', m', e, h2⟩
/-- since m only the row i of starts has changed -/
def sfr (i : Nat) (m m' : Mu) : Prop := mfr [] [38, 39] m m' ∧ (∀ x, (x < 608 * i ∨ 608 * i + 608 ≤ x) → m'.2 38 x = m.2 38 x) ∧ ∀ x, x ≠ i → m'.2 39 x = m.2 39 x
/-- what findStarts needs of a wording's value -/
def WFS (W : Wv) : Prop := (0 ≤ W 12 0 ∧ W 12 0 ≤ 8) ∧ (0 ≤ W 33 0 ∧ W 33 0 ≤ 300) ∧ (∀ f, f < nF W → fkO W f) ∧ ∀ k : Nat, (k : Int) < W 33 0 → okN (W 12 0) 12 (nd W k)
/-- the row i: n starts a -/
def SR (m : Mu) (i n : Nat) (a : Nat → Int) (X : Int → Prop) : Prop := m.2 39 i = (n : Int) ∧ (∀ j, j < n → m.2 38 (608 * i + j) = a j) ∧ SRT n a X ∧ (∀ j, j < n → 0 ≤ a j ∧ a j ≤ 1000000000) ∧ n ≤ 601
theorem thL_2 {W : Wv} {k s : Nat} (hk : k < 300) (hs : s < 2) : W 37 k + (s : Int) ∈ thL W := by
  unfold thL
  rw [List.mem_append]
  have : s = 0 ∨ s = 1 := by omega
  rcases this with rfl | rfl
  · exact Or.inl (List.mem_map.mpr ⟨k, List.mem_range.mpr hk, by simp⟩)
  · exact Or.inr (List.mem_map.mpr ⟨k, List.mem_range.mpr hk, by simp⟩)
theorem m_fstarts {m : Mu} {w f : Nat} {W : Wv} (hw : slc m w = W) (hw13 : w ≤ 13) (hW : WFS W) (hf : f < nF W) : ∃ (n : Nat) (a : Nat → Int) (m' : Mu), m5_findStarts w f m = some m' ∧ sfr (8 * w + f) m m' ∧ SR m' (8 * w + f) n a (thr W f) := by
  obtain ⟨hF, hN, hfk, hok⟩ := hW
  obtain ⟨k1, k2, k3⟩ := hfk f hf
  have hf8 : f < 8 := by have : nF W = (W 12 0).toNat := rfl; omega
  have e14 : mald m 14 112 (8 * (w : Int) + f) = some (W 14 f) := by
    rw [← hw]; exact m_sl (w := w) (k := 14) (j := f) (show f < 8 by omega) (by show (8 * (w : Int) + f) = ((8 * w + f : Nat) : Int); omega) (by show 8 * w + f < 112; omega) (by omega)
  have e17 : mald m 17 112 (8 * (w : Int) + f) = some (W 17 f) := by
    rw [← hw]; exact m_sl (w := w) (k := 17) (j := f) (show f < 8 by omega) (by show (8 * (w : Int) + f) = ((8 * w + f : Nat) : Int); omega) (by show 8 * w + f < 112; omega) (by omega)
  have ei : (8 * (w : Int) + f) = ((8 * w + f : Nat) : Int) := by omega
  unfold m5_findStarts
  rw [e14, Option.bind_some, w32_id (x := W 14 f) (by omega) (by omega)]
  have fin : ∀ {n : Nat} {m1 : Mu} {X : Int → Prop} {l : List Int}, FS m (8 * w + f) m1 n X l → (∀ x, X x ↔ thr W f x) → l.length ≤ 601 → ∃ (n' : Nat) (a : Nat → Int) (m' : Mu), ((mast m1 39 112 (8 * (w : Int) + f) (n : Int)).bind fun u => some u) = some m' ∧ sfr (8 * w + f) m m' ∧ SR m' (8 * w + f) n' a (thr W f) := fun {n m1 X l} h e hl => by
    obtain ⟨h1, h2, a, h3, h4, h5⟩ := h
    have hn := SRT_len h4 h2
    refine ⟨n, a, ma m1 39 (8 * w + f) n, by rw [mast_e (8 * w + f) ei (by omega) (by omega)]; rfl, ⟨⟨fun k _ => by show m1.1 k = _; rw [h1.1], fun k hk => ?_⟩, fun x hx => ?_, fun x hx => ?_⟩, ?_, fun j hj => ?_, SRT_cg h4 (fun _ _ => rfl) e, h5, by omega⟩
    · simp at hk
      rw [ma_o hk.2, h1.2.1 k hk.1]
    · rw [ma_o (by decide)]; exact h1.2.2 x hx
    · rw [ma_s, if_neg hx, h1.2.1 39 (by decide)]
    · rw [ma_s, if_pos rfl]
    · rw [ma_o (by decide)]; exact h3 j hj
  by_cases z : 2 ≤ W 14 f
  · have e2 : W 14 f = 2 := by omega
    rw [if_pos z, e17, Option.bind_some, ei]
    have hl : (W 17 f :: thL W).length = 601 := by rw [List.length_cons, thL_len]
    have F0 : FS m (8 * w + f) m 0 (fun _ => False) (W 17 f :: thL W) := ⟨mfq_rf, fun x hx => hx.elim, fun _ => 0, fun j hj => absurd hj (Nat.not_lt_zero _), ⟨fun i j _ hj => absurd hj (Nat.not_lt_zero _), fun x => ⟨fun z => z.elim, fun ⟨k, k1, _⟩ => absurd k1 (Nat.not_lt_zero _)⟩⟩, fun j hj => absurd hj (Nat.not_lt_zero _)⟩
    obtain ⟨n1, m1, e1, F1⟩ := FS_ins (i := 8 * w + f) (v := W 17 f) (by omega) (by rw [hl]; omega) F0 (by omega) (List.mem_cons_self ..)
    obtain ⟨N, hNe⟩ : ∃ N : Nat, W 33 0 = (N : Int) := ⟨(W 33 0).toNat, by omega⟩
    obtain ⟨n2, m2, e3, F2⟩ := m_78 hw hw13 rfl hf8 hNe (by omega) (by rw [hl]; omega) (by omega) (fun k hk => hok k (by omega)) hF.2 (fun k hk s hs => List.mem_cons_of_mem _ (thL_2 (by omega) hs)) (FS_cg F1 (fun x => by simp))
    have e1' : m5_insertStart ((8 * w + f : Nat) : Int) 0 (W 17 f) m = some ((n1 : Int), m1) := e1
    rw [e1', Option.bind_some]
    rw [e3, Option.bind_some, ← ei]
    exact fin F2 (fun x => by unfold thr; rw [e2]) (by rw [hl]; omega)
  · have e2 := k3 (by omega)
    rw [if_neg z, ei]
    have hl : ((List.range 6).map (fun k : Nat => (k : Int))).length = 6 := by simp
    obtain ⟨n1, m1, e1, F1⟩ := m_23 (l := (List.range 6).map (fun k : Nat => (k : Int))) hw hw13 rfl hf8 (by rw [hl]; omega) (by omega) (fun x h1 h2 => List.mem_map.mpr ⟨x.toNat, List.mem_range.mpr (by omega), by omega⟩)
    rw [e1, Option.bind_some, ← ei]
    refine fin F1 (fun x => ?_) (by rw [hl]; omega)
    unfold thr stX bsX
    rw [if_neg (by omega), e2.1]
    exact ⟨Or.inl, fun z => z.elim id (fun z => ⟨by have := z.1; omega, z.2.1⟩)⟩

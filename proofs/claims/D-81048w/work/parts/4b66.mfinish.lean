/-! THE READER: the end: finish on the twin's side -/
theorem slc_mpl {w k : Nat} {T : List Nat} {m t : Mu} (h : mpl w T m t) (hk : k ∉ T) : slc t w k = slc m w k := by
  funext j; unfold slc; rw [h.2.1 k hk]
theorem slc_mpl_o {w v : Nat} {T : List Nat} {m t : Mu} (h : mpl w T m t) (hv : v ≠ w) : slc t v = slc m v := by
  funext k j
  unfold slc
  by_cases z : j < wid k
  · rw [if_pos z, if_pos z, h.2.2 k]
    rcases Nat.lt_or_gt_of_ne hv with q | q
    · left
      have : wid k * (v + 1) ≤ wid k * w := Nat.mul_le_mul_left _ q
      rw [Nat.mul_add] at this; omega
    · right
      have : wid k * (w + 1) ≤ wid k * v := Nat.mul_le_mul_left _ q
      rw [Nat.mul_add] at this; omega
  · rw [if_neg z, if_neg z]
theorem sfr_mpl {w f : Nat} {m t : Mu} (hf : f < 8) (h : sfr (8 * w + f) m t) : mpl w [38, 39] m t := by
  obtain ⟨h1, h2, h3⟩ := h
  refine ⟨by funext k; exact h1.1 k (by simp), fun k hk => h1.2 k hk, fun k j hj => ?_⟩
  by_cases z1 : k = 38
  · subst z1
    have hj : j < 4864 * w ∨ 4864 * w + 4864 ≤ j := hj
    exact h2 j (by omega)
  · by_cases z2 : k = 39
    · subst z2
      have hj : j < 8 * w ∨ 8 * w + 8 ≤ j := hj
      exact h3 j (by omega)
    · rw [h1.2 k (by simp [z1, z2])]
theorem SR_k {m t : Mu} {i j n : Nat} {a : Nat → Int} {X : Int → Prop} (h : SR m i n a X) (hk : sfr j m t) (hij : i ≠ j) : SR t i n a X := by
  obtain ⟨h1, h2, h3, h4, h5⟩ := h
  exact ⟨by rw [hk.2.2 i hij]; exact h1, fun x hx => by rw [hk.2.1 _ (by omega)]; exact h2 x hx, h3, h4, h5⟩
theorem m_fin5 {m : Mu} {w : Nat} {W : Wv} (hw : slc m w = W) (hw13 : w ≤ 13) (hW : WFS W) : ∃ (ns : Nat → Nat) (as : Nat → Nat → Int) (m' : Mu), m5_finish_l5 w NN 1 0 m = some (((jA ns (nF W) : Nat) : Int), m') ∧ mpl w [38, 39] m m' ∧ jA ns (nF W) ≤ 700000000 ∧ ∀ f, f < nF W → SR m' (8 * w + f) (ns f) (as f) (thr W f) := by
  have h12 : W 12 0 = (nF W : Int) := by have := hW.1; show _ = ((W 12 0).toNat : Int); omega
  have h8 : nF W ≤ 8 := by have := hW.1; omega
  have key := loop_ind (fun q (s : (Nat × (Nat → Nat)) × Mu) => m5_finish_l5 w q (jA s.1.2 s.1.1 : Nat) (s.1.1 : Int) s.2) (fun s => 10 - s.1.1) (fun s => s.1.1 ≤ nF W ∧ mpl w [38, 39] m s.2 ∧ jA s.1.2 s.1.1 ≤ 700000000 ∧ ∃ as : Nat → Nat → Int, ∀ f, f < s.1.1 → SR s.2 (8 * w + f) (s.1.2 f) (as f) (thr W f)) (fun _ r => ∃ (ns : Nat → Nat) (as : Nat → Nat → Int), r.1 = (jA ns (nF W) : Nat) ∧ jA ns (nF W) ≤ 700000000 ∧ mpl w [38, 39] m r.2 ∧ ∀ f, f < nF W → SR r.2 (8 * w + f) (ns f) (as f) (thr W f)) (by
    rintro q ⟨⟨f, ns⟩, t⟩ ⟨hf, fr, hj, as, hB⟩ ih
    dsimp only at hf fr hj hB ⊢
    show ok (m5_finish_l5 w (q + 1) (jA ns f : Nat) (f : Int) t) _
    unfold m5_finish_l5
    have hq4 : Wq4 W (slc t w) := fun k a b c d => by rw [slc_mpl fr (by simp [a, b]), hw]
    have e12 : mald t 12 14 (w : Int) = some (W 12 0) := by rw [← hq4 12 (by decide) (by decide) (by decide) (by decide)]; exact m_sl (w := w) (k := 12) (j := 0) (by decide) (by show (w : Int) = ((1 * w + 0 : Nat) : Int); omega) (by show 1 * w + 0 < 14; omega) (by omega)
    refine ok_eq e12 ?_
    rw [h12, w32_n (by omega), w32_n (by omega)]
    refine ok_ite (fun hz => ok_some ⟨ns, as, by rw [show nF W = f by omega], by rw [show nF W = f by omega]; exact hj, fr, by rw [show nF W = f by omega]; exact hB⟩) (fun hz => ?_)
    have hfn : f < nF W := by omega
    have f8 : f < 8 := by omega
    obtain ⟨n2, a2, t2, e2, fr2, b2⟩ := m_fstarts (f := f) (m := t) rfl hw13 (by rw [WFS_4 hq4]; exact hW) (by rw [nF_4 hq4]; exact hfn)
    rw [thr_4 hq4] at b2
    refine ok_eq e2 ?_
    have frt : mpl w [38, 39] m t2 := mpl_tr fr (sfr_mpl f8 fr2)
    have hja : ∀ g, g ≤ f → jA (fun g => if g = f then n2 else ns g) g = jA ns g := by
      intro g
      induction g with
      | zero => intro _; rfl
      | succ g ihg => intro hg; simp only [jA]; rw [ihg (by omega), if_neg (show ¬ g = f by omega)]
    have hI : ∃ as' : Nat → Nat → Int, ∀ g, g < f + 1 → SR t2 (8 * w + g) ((fun g => if g = f then n2 else ns g) g) (as' g) (thr W g) := ⟨fun g => if g = f then a2 else as g, fun g hg => by
      by_cases q : g = f
      · subst q
        dsimp only
        rw [if_pos rfl, if_pos rfl]
        exact b2
      · dsimp only
        rw [if_neg q, if_neg q]
        exact SR_k (hB g (by omega)) fr2 (by omega)⟩
    have hn2 := b2.2.2.2.2
    rw [w64_id (x := ((jA ns f : Nat) : Int)) (by omega) (by omega)]
    have hs : jA (fun g => if g = f then n2 else ns g) (f + 1) = if jA ns f ≤ 1000000 then jA ns f * n2 else jA ns f := by
      simp only [jA]; rw [hja f (Nat.le_refl _), if_pos trivial]
    refine ok_ite (fun hz => ?_) (fun hz => ?_)
    · refine ok_mald (8 * w + f) (by omega) (by omega) (by omega) ?_
      rw [b2.1, w32_n (by omega)]
      have hle : jA ns f * n2 ≤ 1000000 * 601 := Nat.mul_le_mul (by omega) (by omega)
      rw [if_pos (by omega)] at hs
      have := ih ((f + 1, fun g => if g = f then n2 else ns g), t2) ⟨by show f + 1 ≤ _; omega, frt, by show jA _ (f + 1) ≤ _; rw [hs]; omega, hI⟩ (by show 10 - (f + 1) < 10 - f; omega)
      dsimp only at this
      rw [hs] at this
      rw [show ((jA ns f : Nat) : Int) * (n2 : Int) = ((jA ns f * n2 : Nat) : Int) by rw [Int.natCast_mul]]
      exact this
    · rw [if_neg (by omega)] at hs
      have := ih ((f + 1, fun g => if g = f then n2 else ns g), t2) ⟨by show f + 1 ≤ _; omega, frt, by show jA _ (f + 1) ≤ _; rw [hs]; omega, hI⟩ (by show 10 - (f + 1) < 10 - f; omega)
      dsimp only at this
      rw [hs] at this
      exact this) NN ((0, fun _ => 0), m) ⟨Nat.zero_le _, mpl_rf, by show 1 ≤ 700000000; omega, fun _ _ => 0, fun f hf => absurd hf (Nat.not_lt_zero _)⟩ (NN_gt (by show 10 - 0 < 100000; omega))
  obtain ⟨⟨v, m'⟩, e, ns, as, h1, h2, h3, h4⟩ := key
  have h1 : v = ((jA ns (nF W) : Nat) : Int) := h1
  subst h1
  exact ⟨ns, as, m', e, h3, h2, h4⟩
/-- a way's least values -/
theorem m_108 {m : Mu} {w c : Nat} {W : Wv} (hw : slc m w = W) (hw13 : w ≤ 13) (h8 : nF W ≤ 8) (h39 : ∀ f, f < nF W → W 39 f = (nS W f : Int) ∧ 1 ≤ nS W f ∧ nS W f ≤ 601) (hc : c < 100000) (v4 : Int) : ∃ m', m5_finish_l108 w v4 NN c ((nF W : Int) - 1) m = some m' ∧ mfr [] [59] m m' ∧ ∀ f, f < nF W → m'.2 59 f = val0 W c f := by
  have key := loop_ind (fun q (s : Nat × Mu) => m5_finish_l108 w v4 q ((c / ug W s.1 : Nat) : Int) ((s.1 : Int) - 1) s.2) (fun s => s.1) (fun s => s.1 ≤ nF W ∧ mfr [] [59] m s.2 ∧ ∀ f, s.1 ≤ f → f < nF W → s.2.2 59 f = val0 W c f) (fun _ r => mfr [] [59] m r ∧ ∀ f, f < nF W → r.2 59 f = val0 W c f) (by
    rintro q ⟨i, t⟩ ⟨g1, g2, g3⟩ ih
    dsimp only at g1 g2 g3 ⊢
    show ok (m5_finish_l108 w v4 (q + 1) ((c / ug W i : Nat) : Int) ((i : Int) - 1) t) _
    unfold m5_finish_l108
    rw [w32_id (x := (i : Int) - 1) (by omega) (by omega)]
    refine ok_ite (fun hz => ok_some ⟨g2, fun f hf => g3 f (by omega) hf⟩) (fun hz => ?_)
    obtain ⟨f, rfl⟩ : ∃ f, i = f + 1 := ⟨i - 1, by omega⟩
    have hf : f < nF W := by omega
    rw [show (((f + 1 : Nat) : Int) - 1) = (f : Int) by omega]
    have hs : ∀ k, k ≠ 59 → slc t w k = W k := fun k hk => by rw [← hw]; funext j; unfold slc; rw [g2.2 k (by simp [hk])]
    obtain ⟨n1, n2, n3⟩ := h39 f hf
    have e39 : mald t 39 112 (8 * (w : Int) + f) = some (nS W f : Int) := by
      rw [← n1, ← hs 39 (by decide)]; exact m_sl (w := w) (k := 39) (j := f) (show f < 8 by omega) (by show (8 * (w : Int) + f) = ((8 * w + f : Nat) : Int); omega) (by show 8 * w + f < 112; omega) (by omega)
    have hq : c / ug W (f + 1) ≤ c := Nat.div_le_self _ _
    have hml : c / ug W (f + 1) % nS W f < nS W f := Nat.mod_lt _ n2
    refine ok_eq e39 ?_
    refine ok_neg (by rw [w32_n (by omega)]; omega) ?_
    rw [rem32_n (by omega) (by omega)]
    have e38 : mald t 38 68096 (608 * (8 * (w : Int) + f) + ((c / ug W (f + 1) % nS W f : Nat) : Int)) = some (val0 W c f) := by
      have : mald t 38 68096 (608 * (8 * (w : Int) + f) + ((c / ug W (f + 1) % nS W f : Nat) : Int)) = some (slc t w 38 (608 * f + c / ug W (f + 1) % nS W f)) := m_sl (w := w) (k := 38) (j := 608 * f + c / ug W (f + 1) % nS W f) (show _ < 4864 by omega) (by show _ = ((4864 * w + (608 * f + c / ug W (f + 1) % nS W f) : Nat) : Int); omega) (by show 4864 * w + (608 * f + c / ug W (f + 1) % nS W f) < 68096; omega) (by omega)
      rw [this, hs 38 (by decide)]; rfl
    refine ok_eq e38 (ok_mast f rfl (by omega) (by omega) ?_)
    refine ok_neg (by rw [w32_n (by omega)]; omega) ?_
    rw [div32_n (by omega) (by omega), div_ug2 hf, show ((f : Int) + -1) = (f : Int) - 1 by omega]
    refine ih (f, _) ⟨by show f ≤ nF W; omega, mfr_ma g2 (by simp), fun j hj hj2 => ?_⟩ (by show f < f + 1; omega)
    have hj : f ≤ j := hj
    show (ma t 59 f (val0 W c f)).2 59 j = _
    rw [ma_s]
    by_cases z : j = f
    · rw [if_pos z, z]
    · rw [if_neg z]; exact g3 j (by omega) hj2) NN (nF W, m) ⟨Nat.le_refl _, mfr_rf, fun f h1 h2 => by dsimp only at h1; omega⟩ (NN_gt (by show nF W < 100000; omega))
  obtain ⟨r, e, k⟩ := key
  have e' : m5_finish_l108 w v4 NN ((c / ug W (nF W) : Nat) : Int) ((nF W : Int) - 1) m = some r := e
  rw [ug_F, Nat.div_one] at e'
  exact ⟨r, e', k⟩
/-- the answers of all cells -/
theorem m_83 {m : Mu} {w N : Nat} {W : Wv} (hw : slc m w = W) (hw13 : w ≤ 13) (hM : WM0 W) (h39 : ∀ f, f < nF W → W 39 f = (nS W f : Int) ∧ 1 ≤ nS W f ∧ nS W f ≤ 601) (h38 : ∀ c f, f < nF W → 0 ≤ val0 W c f ∧ val0 W c f ≤ 1000000000) (h40 : W 40 0 = (N : Int)) (hN : N ≤ 2000) : ∃ m', m5_finish_l83 w NN 0 m = some m' ∧ mfr [62] [41, 59, 60, 61] m m' ∧ (∀ x, (x < 2000 * w ∨ 2000 * w + 2000 ≤ x) → m'.2 41 x = m.2 41 x) ∧ ∀ c, c < N → m'.2 41 (2000 * w + c) = b2i (ansO W (val0 W c)) := by
  have h12 : W 12 0 = (nF W : Int) := by have := hM.1; show _ = ((W 12 0).toNat : Int); omega
  have h8 : nF W ≤ 8 := by have := hM.1; omega
  have key := loop_ind (fun q (s : Nat × Mu) => m5_finish_l83 w q (s.1 : Nat) s.2) (fun s => N - s.1) (fun s => s.1 ≤ N ∧ mfr [62] [41, 59, 60, 61] m s.2 ∧ (∀ x, (x < 2000 * w ∨ 2000 * w + 2000 ≤ x) → s.2.2 41 x = m.2 41 x) ∧ ∀ c, c < s.1 → s.2.2 41 (2000 * w + c) = b2i (ansO W (val0 W c))) (fun _ r => mfr [62] [41, 59, 60, 61] m r ∧ (∀ x, (x < 2000 * w ∨ 2000 * w + 2000 ≤ x) → r.2 41 x = m.2 41 x) ∧ ∀ c, c < N → r.2 41 (2000 * w + c) = b2i (ansO W (val0 W c))) (by
    rintro q ⟨c, t⟩ ⟨g1, g2, g3, g4⟩ ih
    dsimp only at g1 g2 g3 g4 ⊢
    show ok (m5_finish_l83 w (q + 1) (c : Nat) t) _
    unfold m5_finish_l83
    have hs : ∀ k, k ≠ 41 → slc t w k = W k := fun k hk => by
      rw [← hw]; funext j; unfold slc
      by_cases z : k = 59 ∨ k = 60 ∨ k = 61
      · have : wid k = 0 := by rcases z with rfl | rfl | rfl <;> rfl
        rw [this, if_neg (by omega), if_neg (by omega)]
      · rw [g2.2 k (by simp; omega)]
    have hq4 : Wq4 W (slc t w) := fun k _ _ _ d => hs k d
    have e40 : mald t 40 14 (w : Int) = some (W 40 0) := by rw [← hs 40 (by decide)]; exact m_sl (w := w) (k := 40) (j := 0) (by decide) (by show (w : Int) = ((1 * w + 0 : Nat) : Int); omega) (by show 1 * w + 0 < 14; omega) (by omega)
    have e12 : mald t 12 14 (w : Int) = some (W 12 0) := by rw [← hs 12 (by decide)]; exact m_sl (w := w) (k := 12) (j := 0) (by decide) (by show (w : Int) = ((1 * w + 0 : Nat) : Int); omega) (by show 1 * w + 0 < 14; omega) (by omega)
    refine ok_eq e40 ?_
    rw [h40, w32_n (by omega), w32_n (by omega)]
    refine ok_ite (fun hz => ok_some ⟨g2, g3, fun x hx => g4 x (by omega)⟩) (fun hz => ?_)
    refine ok_eq e12 ?_
    rw [h12]
    have n39 : ∀ f, nS (slc t w) f = nS W f := fun f => by show (slc t w 39 f).toNat = _; rw [hs 39 (by decide)]
    obtain ⟨t1, e1, f1, v1⟩ := m_108 (m := t) (w := w) (c := c) rfl hw13 (by rw [nF_4 hq4]; exact h8) (fun f hf => by rw [hs 39 (by decide), n39]; rw [nF_4 hq4] at hf; exact h39 f hf) (by omega) c
    rw [nF_4 hq4, val0_41 hq4 (hs 38 (by decide)) (hs 39 (by decide))] at v1
    rw [nF_4 hq4] at e1
    refine ok_eq e1 ?_
    have s1 : slc t1 w = slc t w := slc_fr f1 (by decide)
    obtain ⟨t2, e2, f2, -⟩ := m_answers0 (m := t1) (w := w) s1 hw13 (by rw [WM0_4 hq4]; exact hM) (fun f hf => by
      rw [hq4 12 (by decide) (by decide) (by decide) (by decide), h12] at hf
      have hf' : f < nF W := by omega
      rw [v1 f hf']
      have := h38 c f hf'
      exact w32_id (by omega) (by omega))
    rw [ansO_4 hq4, ansO_cg hM v1] at e2
    refine ok_eq e2 (ok_mast (2000 * w + c) (by omega) (by omega) (by omega) ?_)
    rw [nz_b]
    have fr2 : mfr [62] [41, 59, 60, 61] m t2 := mfr_tr (mfr_tr g2 (mfr_up f1 (by decide) (by decide))) (mfr_up f2 (by decide) (by decide))
    have a2 : ∀ x, t2.2 41 x = t.2 41 x := fun x => by rw [f2.2 41 (by decide), f1.2 41 (by decide)]
    refine ih (c + 1, _) ⟨by show c + 1 ≤ N; omega, mfr_ma fr2 (by simp), fun x hx => ?_, fun x hx => ?_⟩ (by show N - (c + 1) < N - c; omega)
    · show (ma t2 41 (2000 * w + c) (b2i (ansO W (val0 W c)))).2 41 x = _
      rw [ma_s, if_neg (by omega), a2]; exact g3 x hx
    · have hx : x < c + 1 := hx
      show (ma t2 41 (2000 * w + c) (b2i (ansO W (val0 W c)))).2 41 (2000 * w + x) = _
      rw [ma_s]
      by_cases z : x = c
      · rw [if_pos (by omega), z]
      · rw [if_neg (by omega), a2]; exact g4 x (by omega)) NN (0, m) ⟨Nat.zero_le _, mfr_rf, fun _ _ => rfl, fun c hc => absurd hc (Nat.not_lt_zero _)⟩ (NN_gt (by show N - 0 < 100000; omega))
  exact key

/-! THE READER: the end: a wording's value comes in order -/
theorem hS_st {sg v y : Int} (h : 0 ≤ sg ∧ sg ≤ 5) (hn : hS sg (y + 1) v ≠ hS sg y v) : (y + 1 = v ∧ sg ≠ 2 ∧ sg ≠ 3) ∨ (y + 1 = v + 1 ∧ sg ≠ 1 ∧ sg ≠ 4) := by
  have hsg : sg = 0 ∨ sg = 1 ∨ sg = 2 ∨ sg = 3 ∨ sg = 4 ∨ sg = 5 := by omega
  by_cases z1 : y + 1 = v
  · left
    refine ⟨z1, ?_, ?_⟩
    · rintro rfl
      exact hn (by unfold hS; simp; omega)
    · rintro rfl
      exact hn (by unfold hS; simp; omega)
  · by_cases z2 : y = v
    · right
      refine ⟨by omega, ?_, ?_⟩
      · rintro rfl
        exact hn (by unfold hS; simp; omega)
      · rintro rfl
        exact hn (by unfold hS; simp; omega)
    · exfalso
      apply hn
      rcases hsg with rfl | rfl | rfl | rfl | rfl | rfl <;> unfold hS <;> simp <;> omega
theorem hS_const {sg v s : Int} (h : 0 ≤ sg ∧ sg ≤ 5) : ∀ d : Nat, (∀ x, s < x → x ≤ s + d → ¬ ((x = v ∧ sg ≠ 2 ∧ sg ≠ 3) ∨ (x = v + 1 ∧ sg ≠ 1 ∧ sg ≠ 4))) → hS sg (s + d) v = hS sg s v := by
  intro d
  induction d with
  | zero => intro _; simp
  | succ d ih =>
    intro hx
    rw [← ih (fun x h1 h2 => hx x h1 (by omega))]
    apply Classical.byContradiction
    intro hn
    have := hS_st (sg := sg) (v := v) (y := s + (d : Int)) h (by rw [show s + (d : Int) + 1 = s + ((d + 1 : Nat) : Int) by omega]; exact hn)
    refine hx (s + ((d + 1 : Nat) : Int)) (by omega) (Int.le_refl _) ?_
    rw [show s + ((d + 1 : Nat) : Int) = s + (d : Int) + 1 by omega]
    exact this
theorem thr_bd {W : Wv} {f : Nat} (hk : fkO W f) {x : Int} (h : thr W f x) : W 17 f ≤ x ∧ x ≤ W 18 f := by
  unfold thr stX bsX at h
  obtain ⟨k1, k2, k3⟩ := hk
  rcases h with h | h
  · by_cases z : W 14 f = 2
    · rw [if_pos z] at h; omega
    · rw [if_neg z] at h; exact h
  · have := h.1; have := h.2.1; omega
theorem thr_lo {W : Wv} {f : Nat} (hk : fkO W f) : thr W f (W 17 f) := by
  unfold thr stX bsX
  obtain ⟨k1, k2, k3⟩ := hk
  left
  by_cases z : W 14 f = 2
  · rw [if_pos z]
  · rw [if_neg z]; omega
theorem uni_jP {W : Wv} {ns : Nat → Nat} : ∀ k f, (∀ g, f ≤ g → g < f + k → nS W g = ns g) → jP ns f * uni W k f = jP ns (f + k) := by
  intro k
  induction k with
  | zero => intro f _; simp [uni]
  | succ k ih =>
    intro f h
    have := ih (f + 1) (fun g h1 h2 => h g (by omega) (by omega))
    simp only [uni]
    rw [show f + (k + 1) = f + 1 + k by omega, ← this, h f (Nat.le_refl _) (by omega)]
    simp only [jP]
    rw [Nat.mul_assoc]
theorem WM_mk {W : Wv} {ns : Nat → Nat} {as : Nat → Nat → Int} (h0 : WM0 W) (hc : cov W) (hS : ∀ f, f < nF W → W 39 f = (ns f : Int) ∧ (∀ j, j < ns f → W 38 (608 * f + j) = as f j) ∧ SRT (ns f) (as f) (thr W f) ∧ ns f ≤ 601) (h40 : W 40 0 = (uni W (nF W) 0 : Nat)) (h2 : W 40 0 ≤ 2000) (h41 : ∀ c, c < uni W (nF W) 0 → W 41 c = b2i (ansO W (val0 W c))) : WM W := by
  have hfs := WM0_FS h0 hc
  have hn : ∀ f, f < nF W → nS W f = ns f := fun f hf => by show (W 39 f).toNat = _; rw [(hS f hf).1]; simp
  have h1n : ∀ f, f < nF W → 1 ≤ ns f ∧ as f 0 = W 17 f := fun f hf => by
    obtain ⟨s1, s2, s3, s4⟩ := hS f hf
    obtain ⟨k, k1, k2⟩ := (s3.2 _).mp (thr_lo (hfs.2.2.1 f hf))
    have l1 := SRT_le s3 (Nat.zero_le k) k1
    have l2 := (thr_bd (hfs.2.2.1 f hf) ((s3.2 (as f 0)).mpr ⟨0, by omega, rfl⟩)).1
    exact ⟨by omega, by omega⟩
  refine ⟨h0.1, h0.2.1, h0.2.2.1, h0.2.2.2.1, h0.2.2.2.2.1, h0.2.2.2.2.2, fun f hf => ?_, ⟨h40, h2⟩, h41, ⟨fun f k x hf hk hx1 hx2 hx3 i hi hi1 hi2 => ?_, fun f hf x => ?_, hc⟩⟩
  · obtain ⟨s1, s2, s3, s4⟩ := hS f hf
    obtain ⟨n1, n2⟩ := h1n f hf
    rw [hn f hf]
    refine ⟨by omega, by omega, ?_, fun k hk => ?_, fun k hk => ?_⟩
    · have := s2 0 (by omega); rw [Nat.add_zero] at this; rw [this, n2]
    · rw [s2 k (by omega), s2 (k + 1) hk]; exact s3.1 k (k + 1) (by omega) hk
    · rw [s2 k hk]; exact (thr_bd (hfs.2.2.1 f hf) ((s3.2 _).mpr ⟨k, hk, rfl⟩)).2
  · obtain ⟨s1, s2, s3, s4⟩ := hS f hf
    rw [hn f hf] at hk hx3
    have ok1 := hfs.2.2.2 i hi
    have ok2 := ok1.2.2.1 hi1
    have ok3 : 0 ≤ W 36 i ∧ W 36 i ≤ 5 := ⟨ok2.2.2.1, ok2.2.2.2.1⟩
    obtain ⟨k1, k2, k3⟩ := hfs.2.2.1 f hf
    have lok := thr_bd (hfs.2.2.1 f hf) ((s3.2 _).mpr ⟨k, hk, rfl⟩)
    rw [s2 k hk] at hx1 ⊢
    obtain ⟨d, hd⟩ : ∃ d : Nat, x = as f k + (d : Int) := ⟨(x - as f k).toNat, by omega⟩
    rw [hd]
    refine hS_const ok3 d (fun y y1 y2 y3 => ?_)
    have hth : thr W f y := by
      unfold thr stX
      right
      refine ⟨by omega, by omega, i, hi, hi1, hi2, ?_⟩
      exact y3
    obtain ⟨j, j1, j2⟩ := (s3.2 y).mp hth
    have hkj : k < j := by
      apply Classical.byContradiction
      intro q
      have := SRT_le s3 (show j ≤ k by omega) hk
      omega
    have hle := SRT_le s3 (show k + 1 ≤ j by omega) j1
    have := hx3 (by omega)
    rw [s2 (k + 1) (by omega)] at this
    omega
  · obtain ⟨s1, s2, s3, s4⟩ := hS f hf
    rw [hn f hf]
    constructor
    · intro h
      obtain ⟨k, k1, k2⟩ := (s3.2 x).mp h
      exact ⟨k, k1, by rw [s2 k k1]; exact k2⟩
    · rintro ⟨k, k1, k2⟩
      exact (s3.2 x).mpr ⟨k, k1, by rw [← s2 k k1]; exact k2⟩
theorem m_finish {m : Mu} {w : Nat} {W : Wv} (hw : slc m w = W) (hw13 : w ≤ 13) (hM : WM0 W) (hc : cov W) (h8 : m.1 8 = 0) : ∃ (ns : Nat → Nat) (as : Nat → Nat → Int) (m' : Mu), m5_finish w m = some m' ∧ (∀ f, f < nF W → SRT (ns f) (as f) (thr W f) ∧ 1 ≤ ns f ∧ ns f ≤ 601) ∧ mfr [8, 9, 62] [38, 39, 40, 41, 59, 60, 61] m m' ∧ (∀ v, v ≠ w → slc m' v = slc m v) ∧ ((2000 < jP ns (nF W) ∧ m'.1 8 = 7 ∧ m'.1 9 = m.1 5) ∨ (jP ns (nF W) ≤ 2000 ∧ m'.1 8 = 0 ∧ WM (slc m' w) ∧ Wq4 W (slc m' w) ∧ (∀ f, f < nF W → nS (slc m' w) f = ns f ∧ ∀ j, j < ns f → slc m' w 38 (608 * f + j) = as f j) ∧ slc m' w 40 0 = (jP ns (nF W) : Nat))) := by
  have hfs := WM0_FS hM hc
  obtain ⟨ns, as, m1, e1, p1, j1, s1⟩ := m_fin5 hw hw13 hfs
  have hq1 : Wq4 W (slc m1 w) := fun k a b _ _ => by rw [slc_mpl p1 (by simp [a, b]), hw]
  have h8n : nF W ≤ 8 := by have := hM.1; show (W 12 0).toNat ≤ 8; omega
  have n1 : ∀ f, f < nF W → SRT (ns f) (as f) (thr W f) ∧ 1 ≤ ns f ∧ ns f ≤ 601 := fun f hf => by
    obtain ⟨a1, a2, a3, a4, a5⟩ := s1 f hf
    obtain ⟨k, k1, k2⟩ := (a3.2 _).mp (thr_lo (hfs.2.2.1 f hf))
    exact ⟨a3, by omega, a5⟩
  obtain ⟨jA1, jA2⟩ := jA_P (nF W) (fun g hg => (n1 g hg).2.1)
  have F1 : mfr [8, 9, 62] [38, 39, 40, 41, 59, 60, 61] m m1 := ⟨fun k _ => by rw [p1.1], fun k hk => p1.2.1 k (by simp at hk ⊢; omega)⟩
  unfold m5_finish
  rw [e1, Option.bind_some]
  dsimp only
  rw [w64_id (x := ((jA ns (nF W) : Nat) : Int)) (by omega) (by omega)]
  by_cases z : ((jA ns (nF W) : Nat) : Int) ≤ 2000
  · have ej := jA1 (by omega)
    rw [if_pos z, mast_e (k := 40) w rfl (by omega) (by omega), Option.bind_some]
    obtain ⟨m2, hm2⟩ : ∃ m2, m2 = ma m1 40 w ((jA ns (nF W) : Nat) : Int) := ⟨_, rfl⟩
    rw [← hm2]
    have hs2 : ∀ k, k ≠ 40 → slc m2 w k = slc m1 w k := fun k hk => by funext j; unfold slc; rw [hm2, ma_o hk]
    have hq2 : Wq4 W (slc m2 w) := Wq4_tr hq1 (fun k _ _ c _ => hs2 k c)
    have n39 : ∀ f, f < nF W → slc m2 w 39 f = (ns f : Int) := fun f hf => by
      rw [hs2 39 (by decide)]; unfold slc; rw [if_pos (show f < wid 39 by show f < 8; omega)]; exact (s1 f hf).1
    have nSe : ∀ f, f < nF W → nS (slc m2 w) f = ns f := fun f hf => by show (slc m2 w 39 f).toNat = _; rw [n39 f hf]; simp
    have n38 : ∀ f, f < nF W → ∀ j, j < ns f → slc m2 w 38 (608 * f + j) = as f j := fun f hf j hj => by
      have := (n1 f hf).2.2
      rw [hs2 38 (by decide)]; unfold slc; rw [if_pos (show 608 * f + j < wid 38 by show 608 * f + j < 4864; omega), show wid 38 * w + (608 * f + j) = 608 * (8 * w + f) + j by show 4864 * w + _ = _; omega]; exact (s1 f hf).2.1 j hj
    have n40 : slc m2 w 40 0 = ((jA ns (nF W) : Nat) : Int) := by
      unfold slc; rw [if_pos (show 0 < wid 40 by decide), hm2, ma_s, if_pos (show wid 40 * w + 0 = w by show 1 * w + 0 = w; omega)]
    have hnF : nF (slc m2 w) = nF W := nF_4 hq2
    have hu : uni (slc m2 w) (nF W) 0 = jP ns (nF W) := by
      have := uni_jP (W := slc m2 w) (ns := ns) (nF W) 0 (fun g _ h2 => nSe g (by omega))
      simp only [jP, Nat.one_mul, Nat.zero_add] at this
      exact this
    have hv0 : ∀ c f, f < nF W → 0 ≤ val0 (slc m2 w) c f ∧ val0 (slc m2 w) c f ≤ 1000000000 := fun c f hf => by
      have hl : dig (slc m2 w) c f < ns f := by rw [← nSe f hf]; exact Nat.mod_lt _ (by rw [nSe f hf]; exact (n1 f hf).2.1)
      show 0 ≤ slc m2 w 38 (608 * f + dig (slc m2 w) c f) ∧ slc m2 w 38 (608 * f + dig (slc m2 w) c f) ≤ _
      rw [n38 f hf _ hl]; exact (s1 f hf).2.2.2.1 _ hl
    obtain ⟨m3, e3, f3, a3, g3⟩ := m_83 (m := m2) (w := w) (N := jA ns (nF W)) rfl hw13 (by rw [WM0_4 hq2]; exact hM) (fun f hf => by rw [hnF] at hf; rw [n39 f hf, nSe f hf]; exact ⟨rfl, (n1 f hf).2⟩) (fun c f hf => hv0 c f (by rw [hnF] at hf; exact hf)) n40 (by omega)
    rw [e3, Option.bind_some]
    have hs3 : ∀ k, k ≠ 41 → slc m3 w k = slc m2 w k := fun k hk => by
      funext j; unfold slc
      by_cases z : k = 59 ∨ k = 60 ∨ k = 61
      · have : wid k = 0 := by rcases z with rfl | rfl | rfl <;> rfl
        rw [this, if_neg (by omega), if_neg (by omega)]
      · rw [f3.2 k (by simp; omega)]
    have hq3 : Wq4 W (slc m3 w) := Wq4_tr hq2 (fun k _ _ _ d => hs3 k d)
    have hq23 : Wq4 (slc m2 w) (slc m3 w) := fun k _ _ _ d => hs3 k d
    have hu3 : uni (slc m3 w) (nF W) 0 = jP ns (nF W) := by rw [uni_41 (hs3 39 (by decide))]; exact hu
    refine ⟨ns, as, m3, rfl, n1, ?_, fun v hv => ?_, Or.inr ⟨by omega, ?_, ?_, hq3, fun f hf => ⟨?_, fun j hj => ?_⟩, ?_⟩⟩
    · refine mfr_tr F1 (mfr_tr (b := m2) (by rw [hm2]; exact mfr_ma mfr_rf (by simp)) (mfr_up f3 (by decide) (by decide)))
    · have e12 : slc m2 v = slc m1 v := by
        funext k j; unfold slc
        by_cases z : k = 40
        · subst z
          by_cases z2 : j < wid 40
          · have z2 : j < 1 := z2
            rw [if_pos (show j < wid 40 from z2), if_pos (show j < wid 40 from z2), hm2, ma_s, if_neg (show ¬ (wid 40 * v + j = w) by show ¬ (1 * v + j = w); omega)]
          · rw [if_neg z2, if_neg z2]
        · rw [hm2, ma_o z]
      have e23 : slc m3 v = slc m2 v := by
        funext k j; unfold slc
        by_cases z2 : j < wid k
        · rw [if_pos z2, if_pos z2]
          by_cases z : k = 41
          · subst z
            have z2 : j < 2000 := z2
            exact a3 _ (by show (2000 * v + j < _ ∨ _ ≤ 2000 * v + j); omega)
          · rw [f3.2 k]
            intro hm
            simp at hm
            rcases hm with q | q | q | q
            · exact z q
            · subst q; exact absurd z2 (Nat.not_lt_zero _)
            · subst q; exact absurd z2 (Nat.not_lt_zero _)
            · subst q; exact absurd z2 (Nat.not_lt_zero _)
        · rw [if_neg z2, if_neg z2]
      rw [e23, e12, slc_mpl_o p1 hv]
    · rw [f3.1 8 (by decide), hm2]; show m1.1 8 = 0; rw [p1.1]; exact h8
    · refine WM_mk (ns := ns) (as := as) (by rw [WM0_4 hq3]; exact hM) (by rw [cov_4 hq3]; exact hc) (fun f hf => ?_) ?_ ?_ (fun c hcc => ?_)
      · rw [nF_4 hq3] at hf
        rw [hs3 39 (by decide), hs3 38 (by decide), thr_4 hq3]
        exact ⟨n39 f hf, n38 f hf, (n1 f hf).1, (n1 f hf).2.2⟩
      · rw [nF_4 hq3, hu3, hs3 40 (by decide), n40, ej]
      · rw [hs3 40 (by decide), n40]; exact z
      · rw [nF_4 hq3, hu3, ← ej] at hcc
        have := g3 c hcc
        rw [ansO_4 hq23, val0_41 hq23 (hs3 38 (by decide)) (hs3 39 (by decide)), ← this]
        unfold slc
        rw [if_pos (show c < wid 41 by show c < 2000; omega)]
        rfl
    · show (slc m3 w 39 f).toNat = _
      rw [hs3 39 (by decide)]; exact nSe f hf
    · rw [hs3 38 (by decide)]; exact n38 f hf j hj
    · rw [hs3 40 (by decide), n40, ej]
  · rw [if_neg z]
    have hm8 : m1.1 8 = 0 := by rw [p1.1]; exact h8
    obtain ⟨m', em, hm, hm2, hm3⟩ := m_wrong (m := m1) hm8 7
    rw [em, Option.bind_some]
    have e5 : m1.1 5 = m.1 5 := by rw [p1.1]
    refine ⟨ns, as, m', rfl, n1, mfr_tr F1 ⟨fun k hk => hm2 k (fun e => hk (by rw [e]; decide)) (fun e => hk (by rw [e]; decide)), fun k _ => by rw [hm3]⟩, fun v hv => ?_, Or.inl ⟨?_, hm.1, by rw [hm.2.1, e5]⟩⟩
    · have : slc m' v = slc m1 v := by funext k j; unfold slc; rw [hm3]
      rw [this, slc_mpl_o p1 hv]
    · by_cases q : jA ns (nF W) ≤ 1000000
      · rw [← jA1 q]; omega
      · have := jA2 (by omega); omega

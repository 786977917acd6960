/-! the twin's half of settles -/
def hoS (W : Wv) (s n : Nat) : Nat → Nat
  | 0 => 0
  | k + 1 => if s.testBit k then hoS W s n k * nS W k + dig W n k else hoS W s n k
theorem hoS_bd {W : Wv} (hS : ∀ f, f < nF W → 1 ≤ nS W f) (s n : Nat) : ∀ k, k ≤ nF W → (hoS W s n k + 1) * ug W k ≤ ug W 0 := by
  intro k
  induction k with
  | zero => intro _; simp [hoS]
  | succ k ih =>
    intro hk
    have h1 := ih (by omega)
    rw [ug_S (f := k) (by omega)] at h1
    refine Nat.le_trans ?_ h1
    rw [← Nat.mul_assoc]
    refine Nat.mul_le_mul_right _ ?_
    have hd := dig_lt hS (c := n) (f := k) (by omega)
    have h2 := hS k (by omega)
    simp only [hoS]
    split
    · rw [Nat.add_mul, Nat.one_mul]; omega
    · exact Nat.le_mul_of_pos_right _ h2
theorem hoS_lt {W : Wv} (hS : ∀ f, f < nF W → 1 ≤ nS W f) (s n : Nat) {k : Nat} (hk : k ≤ nF W) : hoS W s n k < ug W 0 := by
  have h := hoS_bd hS s n k hk
  have := ug_p hS hk
  have h2 : hoS W s n k + 1 ≤ (hoS W s n k + 1) * ug W k := Nat.le_mul_of_pos_right _ this
  omega
theorem hoS_inj {W : Wv} (hS : ∀ f, f < nF W → 1 ≤ nS W f) {s n n' : Nat} : ∀ k, k ≤ nF W → hoS W s n k = hoS W s n' k → ∀ f, f < k → s.testBit f = true → dig W n f = dig W n' f := by
  intro k
  induction k with
  | zero => intro _ _ f hf; exact absurd hf (Nat.not_lt_zero _)
  | succ k ih =>
    intro hk h f hf hb
    have d1 := dig_lt hS (c := n) (f := k) (by omega)
    have d2 := dig_lt hS (c := n') (f := k) (by omega)
    simp only [hoS] at h
    by_cases hbk : s.testBit k = true
    · rw [if_pos hbk, if_pos hbk] at h
      have hm : (hoS W s n k * nS W k + dig W n k) % nS W k = (hoS W s n' k * nS W k + dig W n' k) % nS W k := by rw [h]
      have hdv : (hoS W s n k * nS W k + dig W n k) / nS W k = (hoS W s n' k * nS W k + dig W n' k) / nS W k := by rw [h]
      rw [Nat.mul_comm (hoS W s n k), Nat.mul_add_mod, Nat.mod_eq_of_lt d1, Nat.mul_comm (hoS W s n' k), Nat.mul_add_mod, Nat.mod_eq_of_lt d2] at hm
      rw [Nat.mul_comm (hoS W s n k), Nat.mul_add_div (by omega), Nat.div_eq_of_lt d1, Nat.mul_comm (hoS W s n' k), Nat.mul_add_div (by omega), Nat.div_eq_of_lt d2] at hdv
      by_cases hfk : f = k
      · rw [hfk]; exact hm
      · exact ih (by omega) hdv f (by omega) hb
    · rw [if_neg hbk, if_neg hbk] at h
      by_cases hfk : f = k
      · rw [hfk] at hb; exact absurd hb hbk
      · exact ih (by omega) h f (by omega) hb
theorem hoS_cg {W : Wv} {s n n' : Nat} (h : ∀ f, f < nF W → s.testBit f = true → dig W n f = dig W n' f) : ∀ k, k ≤ nF W → hoS W s n k = hoS W s n' k := by
  intro k
  induction k with
  | zero => intro _; rfl
  | succ k ih =>
    intro hk
    simp only [hoS]
    rw [ih (by omega)]
    by_cases hb : s.testBit k = true
    · rw [if_pos hb, if_pos hb, h k (by omega) hb]
    · rw [if_neg hb, if_neg hb]
theorem m_key {m : Mu} {w : Nat} {W : Wv} {dg : Nat → Int} {n s : Nat} (hw12 : w ≤ 13) (hM : WM W) (h : WY m w W dg n) (hs : s < 256) : m5_settlesAll_l39 w s m NN 0 0 = some ((hoS W s n (nF W) : Nat) : Int) := by
  obtain ⟨f0, f8⟩ := nF_e hM
  obtain ⟨hw, -, h77⟩ := h
  have key := loop_ind (fun q (i : Nat) => m5_settlesAll_l39 w s m q ((hoS W s n i : Nat) : Int) (i : Int)) (fun i => nF W - i) (fun i => i ≤ nF W) (fun _ x => x = ((hoS W s n (nF W) : Nat) : Int)) (by
    rintro q i hi ih
    show ok (m5_settlesAll_l39 w s m (q + 1) ((hoS W s n i : Nat) : Int) (i : Int)) _
    unfold m5_settlesAll_l39
    refine ok_eq (m_sl (w := w) (k := 12) (j := 0) (by decide) (by show (w : Int) = ((1 * w + 0 : Nat) : Int); omega) (by show 1 * w + 0 < 14; omega) (by omega)) ?_
    rw [hw, f0, w32_n (by omega), w32_n (by omega)]
    refine ok_ite (fun hc => ok_some ?_) (fun hc => ?_)
    · have : i = nF W := by omega
      rw [this]
    · have hif : i < nF W := by omega
      have hrec := ih (i + 1) (by omega) (by omega)
      by_cases hb : s.testBit i = true
      · refine ok_pos ((bit1 hs (by omega)).mpr hb) ?_
        refine ok_eq (m_sl (w := w) (k := 39) (j := i) (by show i < 8; omega) (by show (8 : Int) * w + i = ((8 * w + i : Nat) : Int); omega) (by show 8 * w + i < 112; omega) (by omega)) ?_
        refine ok_mald i rfl (by omega) (by omega) ?_
        rw [hw, (nS_e hM hif).1, h77 i hif]
        have : hoS W s n (i + 1) = hoS W s n i * nS W i + dig W n i := by simp only [hoS]; rw [if_pos hb]
        rw [this] at hrec
        rw [← Int.natCast_mul, ← Int.natCast_add]
        exact hrec
      · refine ok_neg (fun z => hb ((bit1 hs (by omega)).mp z)) ?_
        have : hoS W s n (i + 1) = hoS W s n i := by simp only [hoS]; rw [if_neg hb]
        rw [this] at hrec
        exact hrec) NN 0 (Nat.zero_le _) (NN_gt (by omega))
  obtain ⟨x, ex, rfl⟩ := key
  exact ex
theorem m_settlesAll {m : Mu} {w : Nat} {W : Wv} {dg : Nat → Int} {s : Nat} (hw : slc m w = W) (hw12 : w ≤ 13) (hM : WM W) (hd : ∀ f, f < nF W → m.2 76 f = dg f) (hd2 : ∀ f, f < nF W → -1 ≤ dg f ∧ dg f < nS W f) (hs : s < 256) : ∃ m', m5_settlesAll w s m = some (b2i (sB W dg s), m') ∧ mfr [] [77, 79] m m' := by
  have hS : ∀ f, f < nF W → 1 ≤ nS W f := fun f hf => (nS_e hM hf).2.1
  have hT := ug_T hM (f := 0) (Nat.zero_le _)
  have key1 := loop_ind (fun q (t : Nat × Mu) => m5_settlesAll_l2 w s q (t.1 : Int) t.2) (fun t => 2000 - t.1) (fun t => t.1 ≤ 2000 ∧ mfr [] [79] m t.2 ∧ ∀ c, c < t.1 → t.2.2 79 c = -1) (fun _ m' => mfr [] [79] m m' ∧ ∀ c, c < 2000 → m'.2 79 c = -1) (by
    rintro q ⟨k, t⟩ ⟨g1, g2, g3⟩ ih
    simp only at g1 g2 g3
    show ok (m5_settlesAll_l2 w s (q + 1) (k : Int) t) _
    unfold m5_settlesAll_l2
    rw [w32_n (by omega)]
    refine ok_ite (fun hc => ok_some ?_) (fun hc => ok_mast k rfl (by omega) (by omega) ?_)
    · have : k = 2000 := by omega
      subst this
      exact ⟨g2, g3⟩
    · refine ih (k + 1, ma t 79 k (-1)) ⟨by show k + 1 ≤ 2000; omega, mfr_ma g2 (by decide), fun c hc2 => ?_⟩ (by show 2000 - (k + 1) < 2000 - k; omega)
      have hc2 : c < k + 1 := hc2
      show (ma t 79 k (-1)).2 79 c = -1
      rw [ma_s]
      by_cases hck : c = k
      · rw [if_pos hck]
      · rw [if_neg hck]; exact g3 c (by omega)) NN (0, m) ⟨Nat.zero_le _, mfr_rf, fun c hc => absurd hc (Nat.not_lt_zero _)⟩ (NN_gt (by show 2000 - 0 < 100000; omega))
  obtain ⟨m1, e1, f1, t1⟩ := key1
  have hw1 : slc m1 w = W := by rw [← hw]; exact slc_of (fun j q1 q2 => f1.2 j (by simp; omega))
  obtain ⟨m2, e2, f2, hY⟩ := m_firstWay hw1 hw12 hM (fun f hf => by rw [f1.2 76 (by decide)]; exact hd f hf) hd2
  have mono : ∀ {a b : Mu}, mfr [] [77] a b → mfr [] [77, 79] a b := fun hh => mfr_up hh (fun k hk => hk) (fun k hk => by revert hk; simp; omega)
  obtain ⟨h0, -⟩ := fst_in hS (fun f hf => (hd2 f hf).2)
  have kylt : ∀ n, hoS W s n (nF W) < ug W 0 := fun n => hoS_lt hS s n (Nat.le_refl _)
  have key := loop_ind (fun q (t : Int × Nat × Mu) => m5_settlesAll_l29 w s q t.1 t.2.2) (fun t => 2 * (ug W 0 - t.2.1) + (if t.1 = 0 then 0 else 1)) (fun t => mfr [] [77, 79] m t.2.2 ∧ ((t.1 = 0 ∧ sA W dg s) ∨ (t.1 = 1 ∧ WY t.2.2 w W dg t.2.1 ∧ inM W dg t.2.1 ∧ TI W dg (fun n => hoS W s n (nF W)) t.2.1 (t.2.2.2 79)))) (fun _ r => ∃ m', mfr [] [77, 79] m m' ∧ ((r = .inl m' ∧ ¬ sA W dg s) ∨ (r = .inr m' ∧ sA W dg s))) (by
    rintro q ⟨c, n, t⟩ ⟨g1, g2⟩ ih
    simp only at g1 g2
    show ok (m5_settlesAll_l29 w s (q + 1) c t) _
    unfold m5_settlesAll_l29
    rcases g2 with ⟨rfl, g2⟩ | ⟨rfl, g3, g4, g5⟩
    · exact ok_pos (by decide) (ok_some ⟨t, g1, Or.inr ⟨rfl, g2⟩⟩)
    · refine ok_neg (by decide) (ok_eq (m_key hw12 hM g3 hs) (ok_eq (m_wayAnswer hw12 hM g3 g4.1) ?_))
      rw [w32_b2i]
      have hn := g4.1
      have hky := kylt n
      generalize hkk : hoS W s n (nF W) = ky at *
      have step : ∀ x : Int, x = b2i (aw W n) → ok (m5_settlesAll_b104 (m5_settlesAll_l29 w s q) w s (ky : Int) x t) (fun r => ∃ m', mfr [] [77, 79] m m' ∧ ((r = .inl m' ∧ ¬ sA W dg s) ∨ (r = .inr m' ∧ sA W dg s))) := by
        rintro x rfl
        unfold m5_settlesAll_b104
        have tb : t.2 79 ky = -1 ∨ t.2 79 ky = 0 ∨ t.2 79 ky = 1 := by
          rcases g5.1 ky (by omega) with ⟨q1, -⟩ | ⟨n', -, -, -, q1⟩
          · exact Or.inl q1
          · rw [q1]; cases aw W n' <;> simp [b2i]
        have put : (t.2 79 ky < 0 ∨ t.2 79 ky = b2i (aw W n)) → ok (m5_settlesAll_b130 (m5_settlesAll_l29 w s q) w s (ky : Int) (b2i (aw W n)) t) (fun r => ∃ m', mfr [] [77, 79] m m' ∧ ((r = .inl m' ∧ ¬ sA W dg s) ∨ (r = .inr m' ∧ sA W dg s))) := by
          intro hput
          unfold m5_settlesAll_b130
          refine ok_mast ky rfl (by omega) (by omega) ?_
          have hY2 : WY (ma t 79 ky (b2i (aw W n))) w W dg n := ⟨by rw [slc_ma (by omega)]; exact g3.1, fun f hf => by rw [ma_o (by decide)]; exact g3.2.1 f hf, fun f hf => by rw [ma_o (by decide)]; exact g3.2.2 f hf⟩
          have hTI := TI_put g5 g4 (by simp only [hkk]; omega) (by simp only [hkk]; exact hput)
          simp only [hkk] at hTI
          have ef : va_up (t.2 79) ky (b2i (aw W n)) = (ma t 79 ky (b2i (aw W n))).2 79 := by
            funext c
            rw [va_up_e, ma_s]
          rw [ef] at hTI
          obtain ⟨m', f3, hN⟩ := m_nextWay hw12 hM hd2 hY2 g4
          have f79 : m'.2 79 = (ma t 79 ky (b2i (aw W n))).2 79 := f3.2 79 (by decide)
          have fr : mfr [] [77, 79] m m' := mfr_tr (mfr_ma g1 (by decide)) (mono f3)
          rcases hN with ⟨e, -, -, hmax⟩ | ⟨n1, e, y1, y2, y3, y4⟩
          · refine ok_eq e ?_
            refine ih (0, n, m') ⟨fr, Or.inl ⟨rfl, ?_⟩⟩ ?_
            · exact TI_end hTI (fun n' hn' => by have := hmax n' hn'; omega) (fun a b hab => hoS_cg hab _ (Nat.le_refl _))
            · show 2 * (ug W 0 - n) + (if (0 : Int) = 0 then 0 else 1) < 2 * (ug W 0 - n) + (if (1 : Int) = 0 then 0 else 1)
              simp
          · refine ok_eq e ?_
            have n1l := y2.1
            refine ih (1, n1, m') ⟨fr, Or.inr ⟨rfl, y1, y2, ?_⟩⟩ ?_
            · show TI W dg _ n1 (m'.2 79)
              rw [f79]
              exact TI_skip hTI (by omega) (fun n' hn' h1 h2 => by have := y4 n' hn' (by omega); omega)
            · show 2 * (ug W 0 - n1) + (if (1 : Int) = 0 then 0 else 1) < 2 * (ug W 0 - n) + (if (1 : Int) = 0 then 0 else 1)
              simp
              omega
        refine ok_mald ky rfl (by omega) (by omega) ?_
        rw [w32_id (x := t.2 79 ky) (by omega) (by omega)]
        refine ok_ite (fun hneg => put (Or.inl hneg)) (fun hneg => ok_mald ky rfl (by omega) (by omega) ?_)
        rw [w32_id (x := t.2 79 ky) (by omega) (by omega), w32_b2i]
        refine ok_ite (fun he => put (Or.inr he)) (fun he => ok_some ⟨t, g1, Or.inl ⟨rfl, ?_⟩⟩)
        exact TI_bad g5 g4 (by simp only [hkk]; omega) (fun a b _ _ hab => hoS_inj hS _ (Nat.le_refl _) hab) (by simp only [hkk]; exact hneg) (by simp only [hkk]; exact he)
      refine ok_ite (fun hz => step 0 hz.symm) (fun hz => step 1 ?_)
      show 1 = b2i (ansO W (val0 W n))
      revert hz; cases ansO W (val0 W n) <;> simp [b2i]) NN (1, fst0 W dg, m2) ⟨mfr_tr (mfr_up f1 (fun k hk => hk) (fun k hk => by revert hk; simp; omega)) (mono f2), Or.inr ⟨rfl, hY, h0, ?_⟩⟩ (NN_gt (by show 2 * (ug W 0 - _) + (if (1 : Int) = 0 then 0 else 1) < 100000; simp; omega))
  · obtain ⟨r, e3, m', q1, q2⟩ := key
    refine ⟨m', ?_, q1⟩
    unfold m5_settlesAll
    have e1' : m5_settlesAll_l2 w s NN 0 m = some m1 := e1
    have e3' : m5_settlesAll_l29 w s NN 1 m2 = some r := e3
    rw [e1', Option.bind_some, e2, Option.bind_some, e3', Option.bind_some]
    rcases q2 with ⟨rfl, hn⟩ | ⟨rfl, hy⟩
    · rw [sB_f hn]; rfl
    · rw [sB_t hy]; rfl
  · show TI W dg _ (fst0 W dg) (m2.2 79)
    rw [f2.2 79 (by decide)]
    refine TI_skip (TI_0 t1) (Nat.zero_le _) (fun n' hn' _ h2 => ?_)
    have := fst_min hS (fun f hf => (hd2 f hf).2) hn' (nF W) 0 (by omega)
    rw [Nat.mod_eq_of_lt hn'.1, Nat.mod_eq_of_lt h0.1] at this
    omega

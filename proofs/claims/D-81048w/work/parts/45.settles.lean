theorem cmp_e {s a A : Nat} (hs : s < 256) (hA : ∀ i, A.testBit i = (s.testBit i && !a.testBit i)) : and32 (s : Int) (xor32 (a : Int) (-1)) = (A : Int) := by
  have e : and32 (s : Int) (xor32 (a : Int) (-1)) = ((BitVec.ofNat 32 s &&& ~~~ (BitVec.ofNat 32 a)) : BitVec 32).toInt := by
    unfold and32 xor32
    rw [show jI ((jI (a : Int) ^^^ jI (-1)).toInt) = jI (a : Int) ^^^ jI (-1) from Int32.ofInt_toInt _]
    show ((jI (s : Int)).toBitVec &&& ((jI (a : Int)).toBitVec ^^^ (jI (-1)).toBitVec)).toInt = _
    rw [bI_n, bI_n, show (jI (-1)).toBitVec = BitVec.allOnes 32 by decide, BitVec.xor_allOnes]
  have hle : (BitVec.ofNat 32 s &&& ~~~ (BitVec.ofNat 32 a)).toNat ≤ s := by
    rw [BitVec.toNat_and, bn_n (by omega)]; exact Nat.and_le_left
  rw [e, bt_lt (by omega)]
  congr 1
  apply Nat.eq_of_testBit_eq
  intro i
  rw [hA i, BitVec.testBit_toNat, BitVec.getLsbD_and, BitVec.getLsbD_not, BitVec.getLsbD_ofNat, BitVec.getLsbD_ofNat]
  by_cases hi : i < 32
  · simp [hi]
  · rw [tb8 hs (by omega)]; simp [hi]
/-- the open facts as a number -/
def opn (dg : Nat → Int) : Nat → Nat
  | 0 => 0
  | k + 1 => if 0 ≤ dg k then opn dg k else opn dg k ||| 2 ^ k
theorem opn_b (dg : Nat → Int) : ∀ k g, (opn dg k).testBit g = decide (g < k ∧ dg g < 0) := by
  intro k
  induction k with
  | zero => intro g; simp [opn]
  | succ k ih =>
    intro g
    simp only [opn]
    by_cases hk : 0 ≤ dg k
    · rw [if_pos hk, ih]
      congr 1
      apply propext
      constructor
      · rintro ⟨a, b⟩; exact ⟨by omega, b⟩
      · rintro ⟨a, b⟩
        refine ⟨?_, b⟩
        by_cases hgk : g = k
        · rw [hgk] at b; omega
        · omega
    · rw [if_neg hk, Nat.testBit_or, ih, Nat.testBit_two_pow]
      by_cases hgk : k = g
      · subst hgk
        have : dg k < 0 := by omega
        simp [this]
      · simp only [hgk, decide_false, Bool.or_false]
        congr 1
        apply propext
        constructor <;> rintro ⟨a, b⟩ <;> exact ⟨by omega, b⟩
theorem opn_lt (dg : Nat → Int) (k : Nat) : opn dg k < 2 ^ k := by
  apply Classical.byContradiction
  intro hc
  obtain ⟨i, hi, hb⟩ := Nat.exists_ge_and_testBit_of_ge_two_pow (n := k) (x := opn dg k) (by omega)
  rw [opn_b, decide_eq_true_eq] at hb
  omega
theorem p28 {F : Nat} (h : F ≤ 8) : 2 ^ F ≤ 256 := by
  have : 2 ^ F ≤ 2 ^ 8 := Nat.pow_le_pow_right (by omega) h
  omega
theorem m_open {m : Mu} {w : Nat} {W : Wv} {dg : Nat → Int} (hw : slc m w = W) (hw12 : w ≤ 13) (hM : WM W) (hd : ∀ f, f < nF W → m.2 76 f = dg f) (hd2 : ∀ f, f < nF W → -1 ≤ dg f ∧ dg f < nS W f) : m5_settles_l36 w m NN 0 0 = some ((opn dg (nF W) : Nat) : Int) := by
  obtain ⟨f0, f8⟩ := nF_e hM
  have key := loop_ind (fun q (i : Nat) => m5_settles_l36 w m q ((opn dg i : Nat) : Int) (i : Int)) (fun i => nF W - i) (fun i => i ≤ nF W) (fun _ x => x = ((opn dg (nF W) : Nat) : Int)) (by
    rintro q i hi ih
    show ok (m5_settles_l36 w m (q + 1) ((opn dg i : Nat) : Int) (i : Int)) _
    unfold m5_settles_l36
    refine ok_eq (m_sl (w := w) (k := 12) (j := 0) (by decide) (by show (w : Int) = ((1 * w + 0 : Nat) : Int); omega) (by show 1 * w + 0 < 14; omega) (by omega)) ?_
    rw [hw, f0, w32_n (by omega), w32_n (by omega)]
    refine ok_ite (fun hc => ok_some ?_) (fun hc => ?_)
    · have : i = nF W := by omega
      rw [this]
    · have hif : i < nF W := by omega
      have hrec := ih (i + 1) (by omega) (by omega)
      obtain ⟨d1, d2⟩ := hd2 i hif
      have ns := nS_e hM hif
      have ho := opn_lt dg i
      have h28 := p28 (F := i) (by omega)
      refine ok_mald i rfl (by omega) (by omega) ?_
      rw [hd i hif, w32_id (x := dg i) (by omega) (by omega)]
      refine ok_ite (fun hn => ?_) (fun hn => ?_)
      · unfold m5_settles_b67
        have e0 : or32 ((opn dg i : Nat) : Int) 0 = ((opn dg (i + 1) : Nat) : Int) := by
          have := or32_n (a := opn dg i) (b := 0) (by omega) (by omega)
          rw [Nat.or_zero] at this
          simp only [opn]
          rw [if_pos hn]
          exact this
        rw [e0]
        exact hrec
      · unfold m5_settles_b67
        have hlt : (2 : Nat) ^ i < 256 := by
          have : 2 ^ i ≤ 2 ^ 7 := Nat.pow_le_pow_right (by omega) (by omega)
          omega
        have e0 : opn dg (i + 1) = opn dg i ||| 2 ^ i := by simp only [opn]; rw [if_neg hn]
        rw [shl32_1 i (by omega), or32_n (by omega) (by omega), ← e0]
        exact hrec) NN 0 (Nat.zero_le _) (NN_gt (by omega))
  obtain ⟨x, ex, rfl⟩ := key
  exact ex
theorem m_settles_l {m : Mu} {w : Nat} {W : Wv} {dg : Nat → Int} {A : Nat} (hw : slc m w = W) (hw12 : w ≤ 13) (hM : WM W) (hd : ∀ f, f < nF W → m.2 76 f = dg f) (hd2 : ∀ f, f < nF W → -1 ≤ dg f ∧ dg f < nS W f) (hA : A < 256) : ∃ m', m5_settles_l83 w A NN A 0 m = some (((mls A (sB W dg) 256 : Nat) : Int), m') ∧ mfr [] [77, 79] m m' := by
  generalize hP : sB W dg = P
  have key := loop_ind (fun q (t : Nat × Mu) => m5_settles_l83 w A q ((mls A P t.1 : Nat) : Int) (t.1 : Int) t.2) (fun t => 256 - t.1) (fun t => t.1 ≤ 256 ∧ mfr [] [77, 79] m t.2) (fun _ r => r.1 = ((mls A P 256 : Nat) : Int) ∧ mfr [] [77, 79] m r.2) (by
    rintro q ⟨k, t⟩ ⟨h1, h2⟩ ih
    simp only at h1 h2
    show ok (m5_settles_l83 w A (q + 1) ((mls A P k : Nat) : Int) (k : Int) t) _
    unfold m5_settles_l83
    have hlt := mls_lt (P := P) hA k h1
    rw [w32_n (by omega)]
    refine ok_ite (fun hc => ok_some ⟨?_, h2⟩) (fun hc => ?_)
    · have : k = 256 := by omega
      rw [this]
    · have skip : mls A P (k + 1) = mls A P k → ∀ t2, mfr [] [77, 79] m t2 → ok (m5_settles_l83 w A q ((mls A P k : Nat) : Int) ((k : Int) + 1) t2) (fun r => r.1 = ((mls A P 256 : Nat) : Int) ∧ mfr [] [77, 79] m r.2) := by
        intro e t2 s2
        have := ih (k + 1, t2) ⟨by show k + 1 ≤ 256; omega, s2⟩ (by show 256 - (k + 1) < 256 - k; omega)
        rw [← e]
        exact this
      refine ok_ite (fun hsub => ?_) (fun hsub => ?_)
      · have hsB : subB k A = true := decide_eq_true hsub
        refine ok_eq (m_bef (by omega) hlt) ?_
        rw [w32_b2i]
        refine ok_ite (fun hz => ?_) (fun hz => ?_)
        · refine skip ?_ t h2
          simp only [mls]
          rw [if_neg (fun z => by rw [b2i_0.mp hz] at z; cases z.2.1)]
        · have hbb : bef k (mls A P k) = true := by revert hz; cases bef k (mls A P k) <;> simp [b2i]
          have hs' : slc t w = W := by rw [← hw]; exact slc_of (fun j q1 q2 => h2.2 j (by simp; omega))
          obtain ⟨m3, e3, g3⟩ := m_settlesAll (s := k) hs' hw12 hM (fun f hf => by rw [h2.2 76 (by decide)]; exact hd f hf) hd2 (by omega)
          rw [hP] at e3
          have fr : mfr [] [77, 79] m m3 := mfr_tr h2 g3
          refine ok_eq e3 ?_
          show ok (if w32 (b2i (P k)) = 0 then _ else _) _
          rw [w32_b2i]
          refine ok_ite (fun hz2 => ?_) (fun hz2 => ?_)
          · refine skip ?_ m3 fr
            simp only [mls]
            rw [if_neg (fun z => by have := z.2.2; rw [b2i_0.mp hz2] at this; cases this)]
          · have e4 : mls A P (k + 1) = k := by
              simp only [mls]
              rw [if_pos ⟨hsB, hbb, by revert hz2; cases P k <;> simp [b2i]⟩]
            have := ih (k + 1, m3) ⟨by show k + 1 ≤ 256; omega, fr⟩ (by show 256 - (k + 1) < 256 - k; omega)
            simp only [e4] at this
            exact this
      · refine skip ?_ t h2
        simp only [mls]
        rw [if_neg (fun z => hsub (of_decide_eq_true z.1))]) NN (0, m) ⟨Nat.zero_le _, mfr_rf⟩ (NN_gt (by show 256 - 0 < 100000; omega))
  obtain ⟨⟨r1, r2⟩, e, h1, h2⟩ := key
  simp only at h1
  refine ⟨r2, ?_, h2⟩
  rw [← h1]
  exact e
theorem o_settles {G : CG} {L : Ly} {u : Sg} {m : Mu} (h : RC G L u m) (e k : Int) (he : w32 e = e) (hk : w32 k = k) : sim (f0_settles G (some (L.1 3)) e k u) (m5_settles e k m) (aft G L) := by
  unfold f0_settles m5_settles
  refine sim_L (ztg_e (rT3 h.1)) ?_
  by_cases hg : (1 ≤ e ∧ e ≤ m.1 71) ∧ 0 ≤ k ∧ k ≤ 9999
  · obtain ⟨n, rfl⟩ : ∃ n : Nat, e = n := ⟨e.toNat, by omega⟩
    obtain ⟨w, K, u', m', w1, w12, w2, w3, hM, e1, s1, hA', hS', e2, f1, f2, f3⟩ := look_ok h (e := n) (day := k) (by omega) (by omega) hk hg.2
    have n32 := h.2.2.2.2.2.1.2.1
    refine sim_L e1 (sim_posL (show 0 ≤ w32 0 by decide) (sim_R (noEvent_ok h he hk hg.1 hg.2) (sim_posR (by decide) ?_)))
    refine sim_mald n rfl (by omega) (by omega) ?_
    rw [w3]
    have h' := RC_scr h s1
    have hR' := h'.1
    generalize hW : slc m w = W at *
    generalize hdg : dgt W (vvE m n k) = dg at *
    have hd2 : ∀ f, f < nF W → -1 ≤ dg f ∧ dg f < nS W f := fun f hf => by rw [← hdg]; exact dgt_bd hM _ hf
    have f8 := (nF_e hM).2
    have hS : ∀ f, f < nF W → 1 ≤ nS W f := fun f hf => (nS_e hM hf).2.1
    have h28 := p28 f8
    generalize hA : opn dg (nF W) = A
    have hAlt : A < 2 ^ nF W := by rw [← hA]; exact opn_lt dg _
    have hAb : ∀ g, A.testBit g = decide (g < nF W ∧ dg g < 0) := fun g => by rw [← hA]; exact opn_b dg _ g
    have hPA : sB W dg A = true := by
      refine sB_t (fun a b ha hb hab => ?_)
      have : a = b := dig_ext ha.1 hb.1 (fun f hf => by
        by_cases hdf : 0 ≤ dg f
        · have q1 := ha.2 f hf hdf
          have q2 := hb.2 f hf hdf
          omega
        · exact hab f hf (by rw [hAb, decide_eq_true_eq]; exact ⟨hf, by omega⟩))
      rw [this]
    obtain ⟨m2, e3, f4⟩ := m_settles_l (A := A) f2 (by omega) hM f3 hd2 (by omega)
    have e3o := m_open f2 (by omega) hM f3 hd2
    rw [hA] at e3o
    obtain ⟨u3, e7, s3, hS3⟩ := c_least (gr := 0) (A := A) (P := sB W dg) h' hM (by omega) hS' (fun s t hs hsub hsc hws => by
      have s8 : s < 256 := by omega
      obtain ⟨t2, x1, x2, x3⟩ := c_settles (RC_scr h' hsc) hM (WA_k (frz_scr hsc) hA') hws hd2 s8
      exact ⟨t2, scr_tr hsc x2, x3, Or.inl ⟨by decide, x1⟩⟩)
    have hres := lst_same (P := sB W dg) f8 hAlt hPA
    refine sim_R e2 (sim_R e3o (sim_R e3 (sim_L (gfR_v (rT3 hR') (rR3_14 hR')) (sim_L (ztg_e (rT114 hR')) ?_))))
    have hle : f2_least G (some (L.1 114)) 0 u' = some (lst A (sB W dg) (2 ^ nF W), u3) := by
      obtain ⟨⟨a1, a2⟩, ⟨l1, e9, b1, b2, -⟩, -⟩ := hA'
      have e10 : (shl32 1 ((nF W : Nat) : Int) - 1) = (((2 ^ nF W : Nat) : Int) - 1) := by rw [shl32_1 (nF W) (by omega)]
      have e11 : and32 (((2 ^ nF W : Nat) : Int) - 1) (xor32 (K : Int) (-1)) = (A : Int) := by
        have p1 : 1 ≤ 2 ^ nF W := Nat.one_le_two_pow
        have : (((2 ^ nF W : Nat) : Int) - 1) = ((2 ^ nF W - 1 : Nat) : Int) := by omega
        rw [this]
        refine cmp_e (by omega) (fun i => ?_)
        rw [hAb, Nat.testBit_two_pow_sub_one, hS'.2.2.2.1 i]
        by_cases hi : i < nF W
        · by_cases hdi : 0 ≤ dg i
          · have : ¬ dg i < 0 := by omega
            simp [hi, hdi, this]
          · have : dg i < 0 := by omega
            simp [hi, hdi, this]
        · simp [hi]
      unfold f2_least f2_least_b36
      rw [gfR_v (rT114 hR') hS'.1, Option.bind_some, gfR_v a2 b1, Option.bind_some, ztg_e (lf_tag b2), Option.bind_some, lf_size b2, Option.bind_some, if_pos (by decide), gfI_v (rT114 hR') hS'.2.1, Option.bind_some, e10, e11, e7]
      rfl
    have fr2 : mfr [] [76, 77, 79] m m2 := mfr_tr (mfr_up f1 (fun k hk => hk) (fun k hk => by revert hk; simp; omega)) (mfr_up f4 (fun k hk => hk) (fun k hk => by revert hk; simp; omega))
    refine sim_L hle (sim_some ⟨hres, RC_msc (RC_scr h (scr_tr s1 s3)) (mfr_up fr2 (by simp) (by decide))⟩)
  · obtain ⟨x, hx, e1, e2⟩ := look_bad h he hk hg
    refine sim_L e1 (sim_R e2 (sim_negL (by show ¬ 0 ≤ w32 x; rcases hx with rfl | rfl <;> decide) (sim_negR (by rcases hx with rfl | rfl <;> decide) (sim_R e2 (sim_some ⟨rfl, h⟩)))))

/-! THE CLASS'S WAYS: set, isOne, count, answerBy; the twin's takeDigits -/
theorem lo_bd {W : Wv} (h : WM W) {f : Nat} (hf : f < nF W) : 0 ≤ W 17 f ∧ W 17 f ≤ W 18 f ∧ W 18 f ≤ 999999999 := by
  have hb := st_bd h hf 0 (by have := nS_e h hf; omega)
  rw [Nat.add_zero, (h.2.2.2.2.2.2.1 f hf).2.2.1] at hb
  omega
theorem m_takeDigits {m : Mu} {w e : Nat} {W : Wv} {day : Int} {vv : Nat → Int} (hw : slc m w = W) (hw12 : w ≤ 13) (he : e ≤ 32) (hM : WM W) (hday : w32 day = day) (hn : ∀ f, f < nF W → 0 ≤ m.2 75 (8 * e + f) ∧ m.2 75 (8 * e + f) ≤ 6 ∧ ∀ k : Nat, (k : Int) < m.2 75 (8 * e + f) → 0 ≤ m.2 74 (6 * (8 * e + f) + k) ∧ m.2 74 (6 * (8 * e + f) + k) ≤ 9999) (hvv : ∀ f, f < nF W → onV (m.2 75 (8 * e + f)) (fun k => m.2 73 (6 * (8 * e + f) + k)) (fun k => m.2 74 (6 * (8 * e + f) + k)) day (-1) = vv f) (hv : ∀ f, f < nF W → (vv f = -1) ∨ (W 17 f ≤ vv f ∧ vv f ≤ W 18 f)) : ∃ m', m5_takeDigits w e day m = some m' ∧ mfr [] [76] m m' ∧ ∀ f, f < nF W → m'.2 76 f = dgt W vv f := by
  obtain ⟨f0, f8⟩ := nF_e hM
  have key := loop_ind (fun q (s : Nat × Mu) => m5_takeDigits_l3 w e day q (s.1 : Int) s.2) (fun s => nF W - s.1) (fun s => s.1 ≤ nF W ∧ mfr [] [76] m s.2 ∧ ∀ f, f < s.1 → s.2.2 76 f = dgt W vv f) (fun _ m' => mfr [] [76] m m' ∧ ∀ f, f < nF W → m'.2 76 f = dgt W vv f) (by
    rintro q ⟨i, s⟩ ⟨h1, h2, h3⟩ ih
    simp only at h1 h2 h3
    show ok (m5_takeDigits_l3 w e day (q + 1) (i : Int) s) _
    unfold m5_takeDigits_l3
    have hs : slc s w = W := by rw [← hw]; exact slc_of (fun j q1 q2 => h2.2 j (by simp; omega))
    refine ok_eq (m_sl (w := w) (k := 12) (j := 0) (by decide) (by show (w : Int) = ((1 * w + 0 : Nat) : Int); omega) (by show 1 * w + 0 < 14; omega) (by omega)) ?_
    rw [hs, f0, w32_n (by omega), w32_n (by omega)]
    refine ok_ite (fun hc => ok_some ?_) (fun hc => ?_)
    · have : i = nF W := by omega
      subst this
      exact ⟨h2, h3⟩
    · have hi : i < nF W := by omega
      have e73 : s.2 73 = m.2 73 := h2.2 73 (by decide)
      have e74 : s.2 74 = m.2 74 := h2.2 74 (by decide)
      have e75 : s.2 75 = m.2 75 := h2.2 75 (by decide)
      have hfa : m5_factAt e i day s = some (vv i) := by
        rw [m_factAt he (by omega) (by rw [e75]; exact ⟨(hn i hi).1, (hn i hi).2.1⟩) (by rw [e75, e74]; exact (hn i hi).2.2) hday, e75, e74, e73, hvv i hi]
      refine ok_eq hfa ?_
      have hb := lo_bd hM hi
      have hvi := hv i hi
      rw [w32_id (x := vv i) (by omega) (by omega)]
      have step : ∀ x : Int, x = dgt W vv i → ok (m5_takeDigits_l3 w e day q ((i : Int) + 1) (ma s 76 i x)) (fun m' => mfr [] [76] m m' ∧ ∀ f, f < nF W → m'.2 76 f = dgt W vv f) := by
        intro x hx
        refine ih (i + 1, ma s 76 i x) ⟨by show i + 1 ≤ nF W; omega, mfr_ma h2 (by decide), fun f hf => ?_⟩ (by show nF W - (i + 1) < nF W - i; omega)
        show (ma s 76 i x).2 76 f = _
        rw [ma_s]
        by_cases hfi : f = i
        · rw [if_pos hfi, hfi, hx]
        · rw [if_neg hfi]; exact h3 f (by have hf : f < i + 1 := hf; omega)
      refine ok_ite (fun h0 => ?_) (fun h0 => ?_)
      · refine ok_eq (m_cell hs hw12 hM hi (by omega) (by omega)) (ok_mast i rfl (by omega) (by omega) (step _ ?_))
        unfold dgt; rw [if_pos h0]
      · refine ok_mast i rfl (by omega) (by omega) (step _ ?_)
        unfold dgt; rw [if_neg h0]) NN (0, m) ⟨Nat.zero_le _, mfr_rf, fun f hf => absurd hf (Nat.not_lt_zero _)⟩ (NN_gt (by show nF W - 0 < 100000; omega))
  obtain ⟨m', e1, h1, h2⟩ := key
  refine ⟨m', ?_, h1, h2⟩
  unfold m5_takeDigits
  have e1' : m5_takeDigits_l3 w e day NN 0 m = some m' := e1
  rw [e1']
  rfl
/-- the object Ways: the wording at wa, its digits dg, the known facts K -/
def WS (L : Ly) (u : Sg) (W : Wv) (wa : Nat) (dg : Nat → Int) (K : Nat) : Prop := zR u (L.1 114) 80 = some wa ∧ zI u (L.1 114) 82 = (K : Int) ∧ K < 256 ∧ (∀ g, K.testBit g = decide (g < nF W ∧ 0 ≤ dg g)) ∧ ∀ f, f < nF W → zA u (L.1 142) f = dg f ∧ zA u (L.1 143) f = (ug W (f + 1) : Nat)
theorem bit1 {s f : Nat} (hs : s < 256) (hf : f < 8) : (w32 (and32 (shr32 (s : Int) (f : Int)) 1) = 1) ↔ s.testBit f = true := by
  have h9 : s / 2 ^ f ≤ s := Nat.div_le_self _ _
  rw [shr32_n (by omega) (by omega), show (1 : Int) = ((1 : Nat) : Int) from rfl, and32_n (by omega) (by omega), Nat.and_one_is_mod, w32_n (by omega), Nat.testBit_eq_decide_div_mod_eq, decide_eq_true_eq]
  omega
theorem ug_T {W : Wv} (hM : WM W) {f : Nat} (hf : f ≤ nF W) : 1 ≤ ug W f ∧ ug W f ≤ 2000 := by
  have hS : ∀ f, f < nF W → 1 ≤ nS W f := fun f hf => (nS_e hM hf).2.1
  have h0 := hM.2.2.2.2.2.2.2.1
  rw [← ug_0] at h0
  have hp := ug_p hS (Nat.zero_le (nF W))
  have := Nat.le_of_dvd hp (ug_dvd (W := W) (f := 0) (g := f) (Nat.zero_le _) hf)
  exact ⟨ug_p hS hf, by omega⟩
/-- what is told of an event's facts, for a wording with as many facts -/
def toldE (G : CG) (L : Ly) (u : Sg) (ev F : Nat) (day : Int) (vv : Nat → Int) : Prop := L.2 ev = 1 ∧ zT u ev = 19 ∧ ∃ l, zR u ev 721 = some l ∧ ∃ n9 ks, LF L u l n9 ks ∧ F ≤ n9 ∧ ∀ f, f < F → ∃ r n vs ds, ks f = L.1 r ∧ 1000 ≤ r ∧ KA G L u r n vs ds ∧ (∀ k : Nat, (k : Int) < n → 0 ≤ ds k ∧ ds k ≤ 9999) ∧ onV n vs ds day (-1) = vv f
theorem toldE_scr {G : CG} {L : Ly} {u u' : Sg} {ev F : Nat} {day : Int} {vv : Nat → Int} (h : scr L u u') (k : toldE G L u ev F day vv) : toldE G L u' ev F day vv := by
  obtain ⟨k1, k2, l, k3, n9, ks, k4, k5, k6⟩ := k
  have hf := frz_scr h
  have s := (hf.2 ev k1).2
  refine ⟨k1, by rw [s.1]; exact k2, l, by rw [s.2.2.2.1]; exact k3, n9, ks, LF_k hf k4, k5, fun f hf9 => ?_⟩
  obtain ⟨r, n, vs, ds, a1, a2, a3, a4, a5⟩ := k6 f hf9
  refine ⟨r, n, vs, ds, a1, a2, KA_k (fun j hj => ?_) a3, a4, a5⟩
  have hr : L.2 (L.1 (r + j)) = r + j := by
    rcases (show j = 0 ∨ j = 1 ∨ j = 2 by omega) with rfl | rfl | rfl
    · exact a3.2.2.1
    · exact (a3.2.2.2.2.2.2.1 0 (by omega)).2.2.2.2
    · exact (a3.2.2.2.2.2.2.1 1 (by omega)).2.2.2.2
  refine scr_sam h ?_ ?_ ?_ <;> rw [hr]
  · intro hh
    simp only [SCR, List.mem_cons, List.not_mem_nil, or_false] at hh
    omega
  · omega
  · omega
theorem c_set {G : CG} {L : Ly} {u : Sg} {m : Mu} (h : RC G L u m) {W : Wv} {wa ev : Nat} {day : Int} {vv : Nat → Int} (hM : WM W) (hA : WA G L u wa W) (hday : w32 day = day) (hE : toldE G L u ev (nF W) day vv) (hv : ∀ f, f < nF W → (vv f = -1) ∨ (W 17 f ≤ vv f ∧ vv f ≤ W 18 f)) : ∃ u' K, f2_set G (some (L.1 114)) (some wa) (some ev) day u = some u' ∧ scr L u u' ∧ WS L u' W wa (dgt W vv) K := by
  have hR := h.1
  obtain ⟨f0, f8⟩ := nF_e hM
  have c114 := rC114 hR
  have sc0 : scr L u (zsI (zsR u (L.1 114) 80 (some wa)) (L.1 114) 82 0) := scr_I (scr_R scr_rf (Or.inl ⟨c114, rfl⟩)) (Or.inl (by rw [c114]; decide))
  have key := loop_ind (fun q (s : Nat × Sg) => f2_set_l26 G (some (L.1 114)) (some wa) (some ev) day q ((ug W s.1 : Nat) : Int) ((s.1 : Int) - 1) s.2) (fun s => s.1) (fun s => s.1 ≤ nF W ∧ scr L u s.2 ∧ zR s.2 (L.1 114) 80 = some wa ∧ ∃ K : Nat, zI s.2 (L.1 114) 82 = (K : Int) ∧ K < 256 ∧ (∀ g, K.testBit g = decide (s.1 ≤ g ∧ g < nF W ∧ 0 ≤ dgt W vv g)) ∧ ∀ f, s.1 ≤ f → f < nF W → zA s.2 (L.1 142) f = dgt W vv f ∧ zA s.2 (L.1 143) f = (ug W (f + 1) : Nat)) (fun _ u' => scr L u u' ∧ ∃ K, WS L u' W wa (dgt W vv) K) (by
    rintro q ⟨k, s⟩ ⟨h1, h2, h3, K, h4, h5, h6, h7⟩ ih
    simp only at h1 h2 h3 h4 h5 h6 h7
    show ok (f2_set_l26 G (some (L.1 114)) (some wa) (some ev) day (q + 1) ((ug W k : Nat) : Int) ((k : Int) - 1) s) _
    unfold f2_set_l26
    rw [w32_id (by omega) (by omega)]
    refine ok_ite (fun hc => ok_some ?_) (fun hc => ?_)
    · have hk0 : k = 0 := by omega
      subst hk0
      refine ⟨h2, K, h3, h4, h5, fun g => ?_, fun f hf => h7 f (Nat.zero_le _) hf⟩
      rw [h6]; simp
    · obtain ⟨f, rfl⟩ : ∃ f, k = f + 1 := ⟨k - 1, by omega⟩
      have ef : (((f + 1 : Nat) : Int) - 1) = (f : Int) := by omega
      have ef2 : ((f : Int) + -1) = (f : Int) - 1 := by omega
      rw [ef]
      have hff : f < nF W := by omega
      have hRs := (RC_scr h h2).1
      have hfz := frz_scr h2
      obtain ⟨t1, t2, l, t3, n9, ks, t4, t5, t6⟩ := toldE_scr h2 hE
      obtain ⟨r, n, vs, ds, k1, k2, k3, k4, k5⟩ := t6 f hff
      obtain ⟨⟨a1, a2⟩, -, -, -, -, -, -, -, ⟨l6, e6, b4, b5, b6⟩, -⟩ := WA_k hfz hA
      have sA := b6 f hff
      obtain ⟨ns1, ns2, ns3⟩ := nS_e hM hff
      have hu := ug_T hM (f := f) (by omega)
      have hu1 := ug_T hM (f := f + 1) (by omega)
      have hvi := hv f hff
      have hb := lo_bd hM hff
      refine ok_eq (gfR_v t2 t3) (ok_eq (ztg_e (lf_tag t4)) (ok_eq (lf_get t4 f rfl (by omega)) ?_))
      rw [k1]
      refine ok_eq (zcast_1 k3.1) (ok_eq (ztg_e k3.1) (ok_eq (c_on k3 k4 hday) ?_))
      rw [k5]
      refine ok_eq (gfR_v (rT114 hRs) (rR114_81 hRs)) ?_
      have wv : w32 (vv f) = vv f := w32_id (by omega) (by omega)
      rw [wv]
      -- the tail with the digit
      have n142 := rne (rC142 hRs) (rC143 hRs) (by decide)
      have tail : ∀ x : Int, x = dgt W vv f → ok (f2_set_b86 G (f2_set_l26 G (some (L.1 114)) (some wa) (some ev) day q) (some (L.1 114)) (some wa) (some ev) day ((ug W (f + 1) : Nat) : Int) (f : Int) (vv f) (some (L.1 142)) (f : Int) x s) (fun u' => scr L u u' ∧ ∃ K, WS L u' W wa (dgt W vv) K) := by
        intro x hx
        unfold f2_set_b86
        refine ok_eq (asI_e f (rT142 hRs) (rG142 hRs) rfl (by rw [rL142 hRs]; omega) (by rw [rL142 hRs]; omega)) (ok_eq (gfI_v (show zT s (L.1 114) = 3 from rT114 hRs) (show zI s (L.1 114) 82 = (K : Int) from h4)) ?_)
        rw [wv]
        have t143 : zT s (L.1 143) = 101 := rT143 hRs
        have t114 : zT s (L.1 114) = 3 := rT114 hRs
        have tl : ∀ (K' : Nat) (y : Int), y = (K' : Int) → K' < 256 → (∀ g, K'.testBit g = decide (f ≤ g ∧ g < nF W ∧ 0 ≤ dgt W vv g)) → or32 (K : Int) y = or32 (K : Int) y → ∀ z : Int, or32 (K : Int) z = (K' : Int) → ok (f2_set_b105 G (f2_set_l26 G (some (L.1 114)) (some wa) (some ev) day q) (some (L.1 114)) (some wa) (some ev) day ((ug W (f + 1) : Nat) : Int) (f : Int) (some (L.1 114)) (K : Int) z (zsA s (L.1 142) f x)) (fun u' => scr L u u' ∧ ∃ K, WS L u' W wa (dgt W vv) K) := by
          intro K' y _ hK hKb _ z hz
          unfold f2_set_b105
          rw [hz]
          refine ok_eq (pfI_e (show zT s (L.1 114) = 3 from t114) (rG114 hRs)) (ok_eq (gfR_v (show zT s (L.1 114) = 3 from t114) (show zR s (L.1 114) 83 = _ from rR114_83 hRs)) (ok_eq (asI_e f (show zT s (L.1 143) = 100 + 1 from t143) (rG143 hRs) rfl (by show f < zL s (L.1 143); rw [rL143 hRs]; omega) (by show zL s (L.1 143) ≤ _; rw [rL143 hRs]; omega)) ?_))
          have sc2 : scr L u (zsA (zsI (zsA s (L.1 142) f x) (L.1 114) 82 (K' : Int)) (L.1 143) f ((ug W (f + 1) : Nat) : Int)) := scr_A (scr_I (scr_A h2 (by rw [rC142 hRs]; decide)) (Or.inl (by rw [rC114 hRs]; decide))) (by rw [rC143 hRs]; decide)
          generalize hs9 : zsA (zsI (zsA s (L.1 142) f x) (L.1 114) 82 (K' : Int)) (L.1 143) f ((ug W (f + 1) : Nat) : Int) = s9 at *
          obtain ⟨⟨a1', a2'⟩, -, -, -, -, -, -, -, ⟨l6', e6', b4', b5', b6'⟩, -⟩ := WA_k (frz_scr sc2) hA
          have sA' := b6' f hff
          refine ok_eq (gfR_v a2' b4') (ok_eq (ztg_e (lf_tag b5')) (ok_eq (lf_get b5' f rfl hff) (ok_eq (zcast_1 sA'.2.1) (ok_eq (gfI_v sA'.2.1 (sA'.2.2.1.trans ns1)) ?_))))
          have e9 : (((ug W (f + 1) : Nat) : Int) * (nS W f : Int)) = ((ug W f : Nat) : Int) := by rw [ug_S hff, Int.natCast_mul, Int.mul_comm]
          rw [e9, ef2]
          refine ih (f, s9) ⟨by show f ≤ nF W; omega, sc2, ?_, K', ?_, hK, hKb, fun g hg1 hg2 => ?_⟩ (by show f < f + 1; omega)
          · rw [← hs9]; exact h3
          · rw [← hs9]; show zI (zsI (zsA s (L.1 142) f x) (L.1 114) 82 (K' : Int)) (L.1 114) 82 = _; rw [zsI_I, if_pos ⟨rfl, rfl⟩]
          · have hg1 : f ≤ g := hg1
            rw [← hs9, zA_ne n142, zsI_A, zsA_A, zsA_A, zsI_A, zA_ne n142.symm]
            by_cases hgf : g = f
            · subst hgf; rw [if_pos ⟨rfl, rfl⟩, if_pos ⟨rfl, rfl⟩]; exact ⟨hx, rfl⟩
            · rw [if_neg (fun q => hgf q.2), if_neg (fun q => hgf q.2)]; exact h7 g (by omega) hg2
        refine ok_ite (fun h0 => ?_) (fun h0 => ?_)
        · have hd0 : 0 ≤ dgt W vv f := by unfold dgt; rw [if_pos h0]; omega
          have hlt : (2 : Nat) ^ f < 256 := by
            have : 2 ^ f ≤ 2 ^ 7 := Nat.pow_le_pow_right (by omega) (by omega)
            omega
          refine tl (K ||| 2 ^ f) _ rfl (Nat.or_lt_two_pow (n := 8) h5 hlt) (fun g => ?_) rfl _ ?_
          · rw [Nat.testBit_or, h6, Nat.testBit_two_pow]
            by_cases hgf : f = g
            · subst hgf; simp [hff, hd0]
            · simp only [hgf, decide_false, Bool.or_false]
              congr 1
              apply propext
              constructor <;> rintro ⟨q1, q2⟩ <;> exact ⟨by omega, q2⟩
          · rw [shl32_1 f (by omega), or32_n (by omega) (by omega)]
        · have hd0 : ¬ 0 ≤ dgt W vv f := by unfold dgt; rw [if_neg h0]; omega
          refine tl K _ rfl h5 (fun g => ?_) rfl _ ?_
          · rw [h6]
            congr 1
            apply propext
            constructor
            · rintro ⟨q1, q2⟩; exact ⟨by omega, q2⟩
            · rintro ⟨q1, q2⟩
              refine ⟨?_, q2⟩
              by_cases hgf : g = f
              · rw [hgf] at q2; exact absurd q2.2 hd0
              · omega
          · have := or32_n (a := K) (b := 0) (by omega) (by omega)
            rw [Nat.or_zero] at this
            exact this
      refine ok_ite (fun h0 => ?_) (fun h0 => ?_)
      · refine ok_eq (gfR_v a2 b4) (ok_eq (ztg_e (lf_tag b5)) (ok_eq (lf_get b5 f rfl hff) (ok_eq (zcast_1 sA.2.1) (ok_eq (ztg_e sA.2.1) (ok_eq (c_cell hM hff sA (by omega) (by omega)) ?_)))))
        exact tail _ (by unfold dgt; rw [if_pos h0])
      · exact tail _ (by unfold dgt; rw [if_neg h0])) NN (nF W, zsI (zsR u (L.1 114) 80 (some wa)) (L.1 114) 82 0) ⟨Nat.le_refl _, sc0, by show zR (zsI (zsR u (L.1 114) 80 (some wa)) (L.1 114) 82 0) (L.1 114) 80 = _; rw [zsI_R, zsR_R, if_pos ⟨rfl, rfl⟩], 0, by show zI (zsI _ (L.1 114) 82 0) (L.1 114) 82 = _; rw [zsI_I, if_pos ⟨rfl, rfl⟩]; rfl, by decide, fun g => by
        rw [Nat.zero_testBit]
        show false = decide (nF W ≤ g ∧ g < nF W ∧ 0 ≤ dgt W vv g)
        rw [decide_eq_false (by omega)], fun f h1 h2 => by have h1 : nF W ≤ f := h1; omega⟩ (NN_gt (by show nF W < 100000; omega))
  obtain ⟨u', e1, h1, K, h2⟩ := key
  refine ⟨u', K, ?_, h1, h2⟩
  obtain ⟨⟨a1, a2⟩, ⟨l1, e9, b1, b2, -⟩, -⟩ := WA_k (frz_scr sc0) hA
  unfold f2_set
  have e1' : f2_set_l26 G (some (L.1 114)) (some wa) (some ev) day NN 1 ((nF W : Int) - 1) (zsI (zsR u (L.1 114) 80 (some wa)) (L.1 114) 82 0) = some u' := by
    have := e1
    simp only [ug_F] at this
    exact this
  exact ok_is (ok_eq (pfR_e (rT114 hR) (rG114 hR)) (ok_eq (pfI_e (show zT u (L.1 114) = 3 from rT114 hR) (rG114 hR)) (ok_eq (gfR_v a2 b1) (ok_eq (ztg_e (lf_tag b2)) (ok_eq (lf_size b2) (ok_eq e1' (ok_some rfl)))))))

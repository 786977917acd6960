/-! isOne, count, answerBy; THE CALLS covers and ways -/
/-- the digits of the facts in a set -/
def dgs (dg : Nat → Int) (s : Nat) (f : Nat) : Int := if s.testBit f then dg f else -1
theorem c_isOne {G : CG} {L : Ly} {u : Sg} {m : Mu} (h : RC G L u m) {W : Wv} {wa : Nat} {dg : Nat → Int} {K : Nat} (hM : WM W) (hA : WA G L u wa W) (hS : WS L u W wa dg K) {s n : Nat} (hs : s < 256) (hsb : ∀ f, f < nF W → s.testBit f = true → 0 ≤ dg f) (hdl : ∀ f, f < nF W → dg f < nS W f) (hn : n < ug W 0) : f2_isOne G (some (L.1 114)) n s u = some (b2i (mt W (dgs dg s) n)) := by
  have hR := h.1
  obtain ⟨f0, f8⟩ := nF_e hM
  obtain ⟨w1, w2, w3, w4, w5⟩ := hS
  obtain ⟨⟨a1, a2⟩, ⟨l1, e9, b1, b2, -⟩, -, -, -, -, -, -, ⟨l6, e6, b4, b5, b6⟩, -⟩ := hA
  have hT := ug_T hM (f := 0) (Nat.zero_le _)
  have key := loop_ind (fun q (i : Nat) => f2_isOne_l2 G (some (L.1 114)) n s u q (i : Int)) (fun i => nF W - i) (fun i => i ≤ nF W ∧ mtB W (dgs dg s) n i = true) (fun _ r => (r = .inl () ∧ mt W (dgs dg s) n = false) ∨ (r = .inr () ∧ mt W (dgs dg s) n = true)) (by
    rintro q i ⟨h1, h2⟩ ih
    show ok (f2_isOne_l2 G (some (L.1 114)) n s u (q + 1) (i : Int)) _
    unfold f2_isOne_l2
    refine ok_eq (gfR_v (rT114 hR) w1) (ok_eq (gfR_v a2 b1) (ok_eq (ztg_e (lf_tag b2)) (ok_eq (lf_size b2) ?_)))
    rw [w32_n (by omega), w32_n (by omega)]
    refine ok_ite (fun hc => ok_some (Or.inr ⟨rfl, ?_⟩)) (fun hc => ?_)
    · have : i = nF W := by omega
      subst this
      exact h2
    · have hi : i < nF W := by omega
      by_cases hb : s.testBit i = true
      · refine ok_pos ((bit1 hs (by omega)).mpr hb) ?_
        obtain ⟨z1, z2⟩ := w5 i hi
        have hu := ug_T hM (f := i + 1) (by omega)
        obtain ⟨ns1, ns2, ns3⟩ := nS_e hM hi
        have sA := b6 i hi
        refine ok_eq (gfR_v (rT114 hR) (rR114_83 hR)) (ok_eq (alI_e i (rT143 hR) rfl (by rw [rL143 hR]; omega) (by rw [rL143 hR]; omega)) ?_)
        rw [z2]
        refine ok_neg (by rw [w32_n (by omega)]; omega) ?_
        refine ok_eq (gfR_v (rT114 hR) w1) (ok_eq (gfR_v a2 b4) (ok_eq (ztg_e (lf_tag b5)) (ok_eq (lf_get b5 i rfl hi) (ok_eq (zcast_1 sA.2.1) (ok_eq (gfI_v sA.2.1 (sA.2.2.1.trans ns1)) ?_)))))
        refine ok_neg (by rw [w32_n (by omega)]; omega) ?_
        refine ok_eq (gfR_v (rT114 hR) (rR114_81 hR)) (ok_eq (alI_e i (rT142 hR) rfl (by rw [rL142 hR]; omega) (by rw [rL142 hR]; omega)) ?_)
        have hq : n / ug W (i + 1) ≤ n := Nat.div_le_self _ _
        have hd1 : n / ug W (i + 1) % nS W i < nS W i := Nat.mod_lt _ (by omega)
        have h0 := hsb i hi hb
        have h9 := hdl i hi
        rw [z1, div32_n (by omega) (by omega), rem32_n (by omega) (by omega), w32_n (by omega), w32_id (x := dg i) (by omega) (by omega)]
        have hdgs : dgs dg s i = dg i := by unfold dgs; rw [if_pos hb]
        refine ok_ite (fun he => ?_) (fun he => ok_some (Or.inl ⟨rfl, ?_⟩))
        · refine ih (i + 1) ⟨by omega, ?_⟩ (by omega)
          simp only [mtB, Bool.and_eq_true, Bool.or_eq_true, decide_eq_true_eq]
          exact ⟨h2, Or.inr (by rw [hdgs]; exact he)⟩
        · rw [← Bool.not_eq_true]
          intro ht
          unfold mt at ht
          rw [mtB_iff] at ht
          exact he (by have := ht i hi (by rw [hdgs]; exact h0); rw [hdgs] at this; exact this)
      · refine ok_neg (fun z => hb ((bit1 hs (by omega)).mp z)) ?_
        refine ih (i + 1) ⟨by omega, ?_⟩ (by omega)
        simp only [mtB, Bool.and_eq_true, Bool.or_eq_true, decide_eq_true_eq]
        exact ⟨h2, Or.inl (by unfold dgs; rw [if_neg hb]; omega)⟩) NN 0 ⟨Nat.zero_le _, rfl⟩ (NN_gt (by omega))
  obtain ⟨r, er, hr⟩ := key
  have er' : f2_isOne_l2 G (some (L.1 114)) n s u NN 0 = some r := er
  unfold f2_isOne
  rw [er', Option.bind_some]
  rcases hr with ⟨rfl, e⟩ | ⟨rfl, e⟩ <;> rw [e] <;> rfl
theorem WS_scr144 {G : CG} {L : Ly} {u : Sg} {W : Wv} {wa : Nat} {dg : Nat → Int} {K i : Nat} {x : Int} (hR : Rt G u L) (hS : WS L u W wa dg K) : WS L (zsA u (L.1 144) i x) W wa dg K := by
  obtain ⟨w1, w2, w3, w4, w5⟩ := hS
  refine ⟨w1, w2, w3, w4, fun f hf => ?_⟩
  rw [zA_ne (rne (rC142 hR) (rC144 hR) (by decide)), zA_ne (rne (rC143 hR) (rC144 hR) (by decide))]
  exact w5 f hf
theorem c_count {G : CG} {L : Ly} {u : Sg} {m : Mu} (h : RC G L u m) {W : Wv} {wa : Nat} {dg : Nat → Int} {K : Nat} (hM : WM W) (hA : WA G L u wa W) (hS : WS L u W wa dg K) {s : Nat} (hs : s < 256) (hsb : ∀ f, f < nF W → s.testBit f = true → 0 ≤ dg f) (hdl : ∀ f, f < nF W → dg f < nS W f) : ∃ u', f2_count G (some (L.1 114)) s u = some u' ∧ scr L u u' ∧ WS L u' W wa dg K ∧ zA u' (L.1 144) 0 = (cntA W (dgs dg s) false (ug W 0) : Nat) ∧ zA u' (L.1 144) 1 = (cntA W (dgs dg s) true (ug W 0) : Nat) := by
  have hR := h.1
  have c144 : L.2 (L.1 144) ∈ SCR := by rw [rC144 hR]; decide
  have hT := ug_T hM (f := 0) (Nat.zero_le _)
  have h40 := hM.2.2.2.2.2.2.2.1
  rw [← ug_0] at h40
  have key := loop_ind (fun q (t : Nat × Sg) => f2_count_l16 G (some (L.1 114)) s q (t.1 : Int) t.2) (fun t => ug W 0 - t.1) (fun t => t.1 ≤ ug W 0 ∧ scr L u t.2 ∧ WS L t.2 W wa dg K ∧ zA t.2 (L.1 144) 0 = (cntA W (dgs dg s) false t.1 : Nat) ∧ zA t.2 (L.1 144) 1 = (cntA W (dgs dg s) true t.1 : Nat)) (fun _ u' => scr L u u' ∧ WS L u' W wa dg K ∧ zA u' (L.1 144) 0 = (cntA W (dgs dg s) false (ug W 0) : Nat) ∧ zA u' (L.1 144) 1 = (cntA W (dgs dg s) true (ug W 0) : Nat)) (by
    rintro q ⟨n, t⟩ ⟨g1, g2, g3, g4, g5⟩ ih
    simp only at g1 g2 g3 g4 g5
    show ok (f2_count_l16 G (some (L.1 114)) s (q + 1) (n : Int) t) _
    unfold f2_count_l16
    have ht := RC_scr h g2
    have hRt := ht.1
    have hAt := WA_k (frz_scr g2) hA
    have hAt0 := hAt
    obtain ⟨⟨a1, a2⟩, -, -, -, -, -, -, ⟨n1, n2, n3⟩, -, ⟨x, y, x1, x2, x3, x4, x5⟩⟩ := hAt
    refine ok_eq (gfR_v (rT114 hRt) g3.1) (ok_eq (gfI_v a2 (n2.trans h40.1)) ?_)
    rw [w32_n (by omega), w32_n (by omega)]
    refine ok_ite (fun hc => ok_some ?_) (fun hc => ?_)
    · have : n = ug W 0 := by omega
      subst this
      exact ⟨g2, g3, g4, g5⟩
    · have hn : n < ug W 0 := by omega
      refine ok_eq (ztg_e (rT114 hRt)) (ok_eq (c_isOne ht hM hAt0 g3 hs hsb hdl hn) ?_)
      rw [w32_b2i]
      refine ok_ite (fun hz => ?_) (fun hz => ?_)
      · have hmt : mt W (dgs dg s) n = false := b2i_0.mp hz
        refine ih (n + 1, t) ⟨by show n + 1 ≤ ug W 0; omega, g2, g3, ?_, ?_⟩ (by show ug W 0 - (n + 1) < ug W 0 - n; omega)
        · show zA t (L.1 144) 0 = _
          simp only [cntA]; rw [if_neg (fun z => by rw [hmt] at z; cases z.1)]; exact g4
        · show zA t (L.1 144) 1 = _
          simp only [cntA]; rw [if_neg (fun z => by rw [hmt] at z; cases z.1)]; exact g5
      · have hmt : mt W (dgs dg s) n = true := by revert hz; cases mt W (dgs dg s) n <;> simp [b2i]
        have x5n := (x5 n (by rw [← ug_0]; exact hn)).1
        rw [hM.2.2.2.2.2.2.2.2.1 n (by rw [← ug_0]; exact hn)] at x5n
        refine ok_eq (gfR_v (rT114 hRt) (rR114_84 hRt)) (ok_eq (gfR_v (rT114 hRt) g3.1) (ok_eq (gfR_v a2 x1) (ok_eq (alI_e n x3.2.1 rfl (by rw [x3.2.2, ← ug_0]; exact hn) (by rw [x3.2.2, ← ug_0]; omega)) ?_)))
        rw [x5n]
        have step : ∀ i : Nat, i < 2 → b2i (aw W n) = (i : Int) → ok ((alI t 1 (some (L.1 144)) (i : Int)).bind fun x9 => (asI G.2.2.2.1 t 1 (some (L.1 144)) (i : Int) (x9 + 1)).bind fun u10 => f2_count_l16 G (some (L.1 114)) s q ((n : Int) + 1) u10) (fun u' => scr L u u' ∧ WS L u' W wa dg K ∧ zA u' (L.1 144) 0 = (cntA W (dgs dg s) false (ug W 0) : Nat) ∧ zA u' (L.1 144) 1 = (cntA W (dgs dg s) true (ug W 0) : Nat)) := by
          intro i hi hb
          refine ok_eq (alI_e i (rT144 hRt) rfl (by rw [rL144 hRt]; omega) (by rw [rL144 hRt]; omega)) (ok_eq (asI_e i (rT144 hRt) (rG144 hRt) rfl (by rw [rL144 hRt]; omega) (by rw [rL144 hRt]; omega)) ?_)
          refine ih (n + 1, _) ⟨by show n + 1 ≤ ug W 0; omega, scr_A g2 c144, WS_scr144 hRt g3, ?_, ?_⟩ (by show ug W 0 - (n + 1) < ug W 0 - n; omega)
          · show zA (zsA t (L.1 144) i (zA t (L.1 144) i + 1)) (L.1 144) 0 = (cntA W (dgs dg s) false (n + 1) : Nat)
            rw [zsA_A]
            simp only [cntA]
            revert hb; cases haw : aw W n <;> intro hb
            · have : i = 0 := by have : (0 : Int) = i := hb; omega
              subst this
              rw [if_pos (by simp), if_pos ⟨hmt, rfl⟩, g4]; omega
            · have : i = 1 := by have : (1 : Int) = i := hb; omega
              subst this
              rw [if_neg (by simp), if_neg (fun z => by cases z.2), g4]; omega
          · show zA (zsA t (L.1 144) i (zA t (L.1 144) i + 1)) (L.1 144) 1 = (cntA W (dgs dg s) true (n + 1) : Nat)
            rw [zsA_A]
            simp only [cntA]
            revert hb; cases haw : aw W n <;> intro hb
            · have : i = 0 := by have : (0 : Int) = i := hb; omega
              subst this
              rw [if_neg (by simp), if_neg (fun z => by cases z.2), g5]; omega
            · have : i = 1 := by have : (1 : Int) = i := hb; omega
              subst this
              rw [if_pos (by simp), if_pos ⟨hmt, rfl⟩, g5]; omega
        cases haw : ansO W (val0 W n)
        · exact step 0 (by omega) (by unfold aw; rw [haw]; rfl)
        · exact step 1 (by omega) (by unfold aw; rw [haw]; rfl)) NN (0, zsA (zsA u (L.1 144) 0 0) (L.1 144) 1 0) ⟨Nat.zero_le _, scr_A (scr_A scr_rf c144) c144, ?_, ?_, ?_⟩ (NN_gt (by show ug W 0 - 0 < 100000; omega))
  · obtain ⟨u', e1, h1⟩ := key
    refine ⟨u', ?_, h1⟩
    unfold f2_count
    have t3 : zT u (L.1 114) = 3 := rT114 hR
    have t4 : zT u (L.1 144) = 101 := rT144 hR
    have e1' : f2_count_l16 G (some (L.1 114)) s NN 0 (zsA (zsA u (L.1 144) 0 0) (L.1 144) 1 0) = some u' := e1
    exact ok_is (ok_eq (gfR_v t3 (rR114_84 hR)) (ok_eq (asI_e 0 t4 (rG144 hR) rfl (by rw [rL144 hR]; omega) (by rw [rL144 hR]; omega)) (ok_eq (gfR_v (show zT u (L.1 114) = 3 from t3) (show zR u (L.1 114) 84 = _ from rR114_84 hR)) (ok_eq (asI_e 1 (show zT u (L.1 144) = 100 + 1 from t4) (rG144 hR) rfl (by show 1 < zL u (L.1 144); rw [rL144 hR]; omega) (by show zL u (L.1 144) ≤ _; rw [rL144 hR]; omega)) (ok_eq e1' (ok_some rfl))))))
  · exact WS_scr144 (RC_scr h (scr_A scr_rf c144)).1 (WS_scr144 hR hS)
  · show zA (zsA (zsA u (L.1 144) 0 0) (L.1 144) 1 0) (L.1 144) 0 = _
    rw [zsA_A, if_neg (fun z => by cases z.2), zsA_A, if_pos ⟨rfl, rfl⟩]; rfl
  · show zA (zsA (zsA u (L.1 144) 0 0) (L.1 144) 1 0) (L.1 144) 1 = _
    rw [zsA_A, if_pos ⟨rfl, rfl⟩]; rfl
theorem c_answerBy {G : CG} {L : Ly} {u : Sg} {m : Mu} (h : RC G L u m) {W : Wv} {wa : Nat} {dg : Nat → Int} {K : Nat} (hM : WM W) (hA : WA G L u wa W) (hS : WS L u W wa dg K) {s : Nat} (hs : s < 256) (hsb : ∀ f, f < nF W → s.testBit f = true → 0 ≤ dg f) (hdl : ∀ f, f < nF W → dg f < nS W f) : ∃ u', f2_answerBy G (some (L.1 114)) s u = some (setl W (dgs dg s), u') ∧ scr L u u' ∧ WS L u' W wa dg K := by
  obtain ⟨u', e1, h1, h2, h3, h4⟩ := c_count h hM hA hS hs hsb hdl
  refine ⟨u', ?_, h1, h2⟩
  have hR := h.1
  have hR' := (RC_scr h h1).1
  have hT := ug_T hM (f := 0) (Nat.zero_le _)
  have c0 := cntA_le W (dgs dg s) false (ug W 0)
  have c1 := cntA_le W (dgs dg s) true (ug W 0)
  have ha : f2_answer G (some (L.1 114)) u' = some (setl W (dgs dg s)) := by
    unfold f2_answer setl
    have q0 : alI u' 1 (some (L.1 144)) 0 = some ((cntA W (dgs dg s) false (ug W 0) : Nat) : Int) := (alI_e 0 (t := 1) (rT144 hR') rfl (by rw [rL144 hR']; omega) (by rw [rL144 hR']; omega)).trans (by rw [h3])
    have q1 : alI u' 1 (some (L.1 144)) 1 = some ((cntA W (dgs dg s) true (ug W 0) : Nat) : Int) := (alI_e 1 (t := 1) (rT144 hR') rfl (by rw [rL144 hR']; omega) (by rw [rL144 hR']; omega)).trans (by rw [h4])
    rw [gfR_v (rT114 hR') (rR114_84 hR'), Option.bind_some, q0, Option.bind_some, w32_n (by omega)]
    by_cases z0 : cntA W (dgs dg s) false (ug W 0) = 0
    · rw [if_pos (by omega), if_pos z0]
    · rw [if_neg (by omega), if_neg z0, Option.bind_some, q1, Option.bind_some, w32_n (by omega)]
      by_cases z1 : cntA W (dgs dg s) true (ug W 0) = 0
      · rw [if_pos (by omega), if_pos z1]
      · rw [if_neg (by omega), if_neg z1]
  unfold f2_answerBy
  rw [ztg_e (rT114 hR), Option.bind_some, e1, Option.bind_some, ztg_e (rT114 hR'), Option.bind_some, ha]
  rfl

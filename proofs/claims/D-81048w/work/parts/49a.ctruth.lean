/-! THE CLASS'S TRUTH over ways: way, mean, truth -/
theorem WS_140 {G : CG} {L : Ly} {u : Sg} {W : Wv} {wa : Nat} {dg : Nat → Int} {K i : Nat} {x : Int} (hR : Rt G u L) (hS : WS L u W wa dg K) : WS L (zsA u (L.1 140) i x) W wa dg K := by
  obtain ⟨w1, w2, w3, w4, w5⟩ := hS
  refine ⟨w1, w2, w3, w4, fun f hf => ?_⟩
  rw [zA_ne (rne (rC142 hR) (rC140 hR) (by decide)), zA_ne (rne (rC143 hR) (rC140 hR) (by decide))]
  exact w5 f hf
theorem WS_141 {G : CG} {L : Ly} {u : Sg} {W : Wv} {wa : Nat} {dg : Nat → Int} {K i : Nat} {x : Int} (hR : Rt G u L) (hS : WS L u W wa dg K) : WS L (zsA u (L.1 141) i x) W wa dg K := by
  obtain ⟨w1, w2, w3, w4, w5⟩ := hS
  refine ⟨w1, w2, w3, w4, fun f hf => ?_⟩
  rw [zA_ne (rne (rC142 hR) (rC141 hR) (by decide)), zA_ne (rne (rC143 hR) (rC141 hR) (by decide))]
  exact w5 f hf
/-- a way's least values into the scratch -/
theorem c_way {G : CG} {L : Ly} {u : Sg} {m : Mu} (h : RC G L u m) {W : Wv} {wa : Nat} {dg : Nat → Int} {K : Nat} (hM : WM W) (hA : WA G L u wa W) (hS : WS L u W wa dg K) {n : Nat} (hn : n < ug W 0) : ∃ u', f6_way G (some wa) n (some (L.1 113)) u = some u' ∧ scr L u u' ∧ WS L u' W wa dg K ∧ ∀ f, f < nF W → zA u' (L.1 140) f = val0 W n f := by
  obtain ⟨f0, f8⟩ := nF_e hM
  have hT := ug_T hM (f := 0) (Nat.zero_le _)
  have c140 : L.2 (L.1 140) ∈ SCR := by rw [rC140 h.1]; decide
  have key := loop_ind (fun q (t : Nat × Sg) => f6_way_l15 G (some wa) (some (L.1 113)) q ((n / ug W t.1 : Nat) : Int) ((t.1 : Int) - 1) t.2) (fun t => t.1) (fun t => t.1 ≤ nF W ∧ scr L u t.2 ∧ WS L t.2 W wa dg K ∧ ∀ f, t.1 ≤ f → f < nF W → zA t.2 (L.1 140) f = val0 W n f) (fun _ u' => scr L u u' ∧ WS L u' W wa dg K ∧ ∀ f, f < nF W → zA u' (L.1 140) f = val0 W n f) (by
    rintro q ⟨i, t⟩ ⟨g1, g2, g3, g4⟩ ih
    simp only at g1 g2 g3 g4
    show ok (f6_way_l15 G (some wa) (some (L.1 113)) (q + 1) ((n / ug W i : Nat) : Int) ((i : Int) - 1) t) _
    unfold f6_way_l15
    have hRt := (RC_scr h g2).1
    obtain ⟨⟨a1, a2⟩, -, -, -, -, -, -, -, ⟨l6, e6, b4, b5, b6⟩, -⟩ := WA_k (frz_scr g2) hA
    rw [w32_id (x := (i : Int) - 1) (by omega) (by omega)]
    refine ok_ite (fun hc => ok_some ⟨g2, g3, fun f hf => g4 f (by omega) hf⟩) (fun hc => ?_)
    obtain ⟨f, rfl⟩ : ∃ f, i = f + 1 := ⟨i - 1, by omega⟩
    have hf : f < nF W := by omega
    have ef : (((f + 1 : Nat) : Int) - 1) = (f : Int) := by omega
    rw [ef]
    obtain ⟨ns1, ns2, ns3⟩ := nS_e hM hf
    obtain ⟨q1, q2, q3, r, q4, q5, q6⟩ := b6 f hf
    have hq : n / ug W (f + 1) ≤ n := Nat.div_le_self _ _
    have hml : n / ug W (f + 1) % nS W f < nS W f := Nat.mod_lt _ ns2
    refine ok_eq (gfR_v a2 b4) (ok_eq (ztg_e (lf_tag b5)) (ok_eq (lf_get b5 f rfl hf) (ok_eq (zcast_1 q2) (ok_eq (gfR_v (rT113 hRt) (rR113_40 hRt)) (ok_eq (gfR_v q2 q4) (ok_eq (gfI_v q2 (q3.trans ns1)) ?_))))))
    refine ok_neg (by rw [w32_n (by omega)]; omega) ?_
    rw [rem32_n (by omega) (by omega)]
    refine ok_eq (alI_e (n / ug W (f + 1) % nS W f) q5.2.1 rfl (by rw [q5.2.2]; exact hml) (by rw [q5.2.2]; omega)) (ok_eq (asI_e f (rT140 hRt) (rG140 hRt) rfl (by rw [rL140 hRt]; omega) (by rw [rL140 hRt]; omega)) ?_)
    refine ok_eq (gfI_v (by show zT t (e6 f) = 5; exact q2) (show zI t (e6 f) 161 = (nS W f : Int) from q3.trans ns1)) ?_
    refine ok_neg (by rw [w32_n (by omega)]; omega) ?_
    rw [div32_n (by omega) (by omega), q6 _ hml, div_ug2 hf]
    have e2 : ((f : Int) + -1) = (f : Int) - 1 := by omega
    rw [e2]
    refine ih (f, _) ⟨by show f ≤ nF W; omega, scr_A g2 c140, WS_140 hRt g3, fun j hj hj2 => ?_⟩ (by show f < f + 1; omega)
    show zA (zsA t (L.1 140) f _) (L.1 140) j = _
    rw [zsA_A]
    by_cases hjf : j = f
    · rw [if_pos ⟨rfl, hjf⟩, hjf]; rfl
    · rw [if_neg (fun z => hjf z.2)]; exact g4 j (by have hj : f ≤ j := hj; omega) hj2) NN (nF W, u) ⟨Nat.le_refl _, scr_rf, hS, fun f h1 h2 => by have h1 : nF W ≤ f := h1; omega⟩ (NN_gt (by show nF W < 100000; omega))
  obtain ⟨u', e, h1, h2, h3⟩ := key
  refine ⟨u', ?_, h1, h2, h3⟩
  obtain ⟨⟨a1, a2⟩, ⟨l1, e9, b1, b2, -⟩, -⟩ := hA
  have e' : f6_way_l15 G (some wa) (some (L.1 113)) NN ((n / ug W (nF W) : Nat) : Int) ((nF W : Int) - 1) u = some u' := e
  rw [ug_F, Nat.div_one] at e'
  unfold f6_way
  rw [gfR_v a2 b1, Option.bind_some, ztg_e (lf_tag b2), Option.bind_some, lf_size b2, Option.bind_some, e']
  rfl
/-- a condition's truth by the scratch -/
theorem c_tru {G : CG} {L : Ly} {u : Sg} {m : Mu} (h : RC G L u m) {W : Wv} (hM : WM W) {v a : Nat → Int} {nm i j : Int} {c : Nat} (hnm : nm ≤ 12) (hs : sgO W nm i j) (hc : CA (FW L u W) G u 100 c (seg W i j)) (hv : ∀ f, f < nF W → zA u (L.1 140) f = v f ∧ w32 (v f) = v f) (ha : ∀ k : Nat, (k : Int) < nm → zA u (L.1 141) k = a k ∧ (a k = 0 ∨ a k = 1)) : kv_isTrue G DD (some c) (some (L.1 113)) u = some (b2i (tru v a (seg W i j))) := by
  have hR := h.1
  obtain ⟨f0, f8⟩ := nF_e hM
  obtain ⟨s1, s2, s3, s4, s5⟩ := hs
  rw [isTrue_eq hR.2.2.2.2.2.1 (rT113 hR) (rR113_40 hR) (rR113_41 hR) (rT140 hR) (rL140 hR) (rT141 hR) (rL141 hR) (nf := W 12 0) (nm := nm) (by omega) hnm (fun k hk => by obtain ⟨z1, z2⟩ := hv k (by omega); rw [z1]; exact z2) (fun k hk => by obtain ⟨z1, z2⟩ := ha k hk; rw [z1]; exact z2) 100 c _ hc s5 DD (by decide)]
  rw [tru_cg (v := zA u (L.1 140)) (v' := v) (a := zA u (L.1 141)) (a' := a) (fun q hq h0 => by
    have := (s5 q hq).2.2.1 h0
    rw [(hv q.2.1.toNat (by omega)).1]) (fun q hq h1 => by
    have := (s5 q hq).2.2.2 h1
    exact (ha q.2.1.toNat (by omega)).1)]
theorem c_mean {G : CG} {L : Ly} {u : Sg} {m : Mu} (h : RC G L u m) {W : Wv} {wa : Nat} {dg : Nat → Int} {K : Nat} (hM : WM W) (hA : WA G L u wa W) (hS : WS L u W wa dg K) {v : Nat → Int} (hv : ∀ f, f < nF W → zA u (L.1 140) f = v f ∧ w32 (v f) = v f) : ∃ u', f6_mean G (some wa) (some (L.1 113)) u = some u' ∧ scr L u u' ∧ WS L u' W wa dg K ∧ (∀ f, f < nF W → zA u' (L.1 140) f = v f) ∧ ∀ k, k < nM W → zA u' (L.1 141) k = mnO W v k := by
  have hM1 := hM.1
  have e19 : W 19 0 = (nM W : Int) := by unfold nM; omega
  have c141 : L.2 (L.1 141) ∈ SCR := by rw [rC141 h.1]; decide
  have key := loop_ind (fun q (t : Nat × Sg) => f6_mean_l2 G (some wa) (some (L.1 113)) q (t.1 : Int) t.2) (fun t => nM W - t.1) (fun t => t.1 ≤ nM W ∧ scr L u t.2 ∧ WS L t.2 W wa dg K ∧ (∀ f, f < nF W → zA t.2 (L.1 140) f = v f) ∧ ∀ k, k < t.1 → zA t.2 (L.1 141) k = mnA W v t.1 k) (fun _ u' => scr L u u' ∧ WS L u' W wa dg K ∧ (∀ f, f < nF W → zA u' (L.1 140) f = v f) ∧ ∀ k, k < nM W → zA u' (L.1 141) k = mnO W v k) (by
    rintro q ⟨i, t⟩ ⟨g1, g2, g3, g4, g5⟩ ih
    simp only at g1 g2 g3 g4 g5
    show ok (f6_mean_l2 G (some wa) (some (L.1 113)) (q + 1) (i : Int) t) _
    unfold f6_mean_l2
    have ht := RC_scr h g2
    have hRt := ht.1
    obtain ⟨⟨a1, a2⟩, -, -, ⟨l3, e3, b1, b2, b3⟩, -⟩ := WA_k (frz_scr g2) hA
    refine ok_eq (gfR_v a2 b1) (ok_eq (ztg_e (lf_tag b2)) (ok_eq (lf_size b2) ?_))
    rw [w32_n (by omega), w32_n (by omega)]
    refine ok_ite (fun hc => ok_some ?_) (fun hc => ?_)
    · have : i = nM W := by omega
      subst this
      exact ⟨g2, g3, g4, g5⟩
    · have hi : i < nM W := by omega
      have hca := b3 i hi
      have hct : zT t (e3 i) ∈ [12, 13, 14, 15, 16] := by
        obtain ⟨-, q | q | q | q | q⟩ := hca <;> rw [q.1] <;> decide
      refine ok_eq (gfR_v (rT113 hRt) (rR113_41 hRt)) (ok_eq (gfR_v a2 b1) (ok_eq (ztg_e (lf_tag b2)) (ok_eq (lf_get b2 i rfl hi) (ok_eq (zcast_e hct) ?_))))
      have et := c_tru ht hM (v := v) (a := mnA W v i) (nm := (i : Int)) (by omega) (hM.2.2.1 i hi) hca (fun f hf => ⟨g4 f hf, (hv f hf).2⟩) (fun k hk => ⟨g5 k (by omega), mnA_01 W v i k⟩)
      refine ok_eq et (ok_eq (asI_e i (rT141 hRt) (rG141 hRt) rfl (by rw [rL141 hRt]; omega) (by rw [rL141 hRt]; omega)) ?_)
      rw [nz_b]
      refine ih (i + 1, _) ⟨by show i + 1 ≤ nM W; omega, scr_A g2 c141, WS_141 hRt g3, fun f hf => ?_, fun k hk => ?_⟩ (by show nM W - (i + 1) < nM W - i; omega)
      · show zA (zsA t (L.1 141) i _) (L.1 140) f = v f
        rw [zA_ne (rne (rC140 hRt) (rC141 hRt) (by decide))]
        exact g4 f hf
      · show zA (zsA t (L.1 141) i _) (L.1 141) k = mnA W v (i + 1) k
        rw [zsA_A, show mnA W v (i + 1) k = if k = i then b2i (tru v (mnA W v i) (seg W (W 21 i) (W 22 i))) else mnA W v i k from rfl]
        by_cases hki : k = i
        · rw [if_pos ⟨rfl, hki⟩, if_pos hki]
        · rw [if_neg (fun z => hki z.2), if_neg hki]
          exact g5 k (by have hk : k < i + 1 := hk; omega)) NN (0, u) ⟨Nat.zero_le _, scr_rf, hS, fun f hf => (hv f hf).1, fun k hk => absurd hk (Nat.not_lt_zero _)⟩ (NN_gt (by show nM W - 0 < 100000; omega))
  obtain ⟨u', e, h1, h2, h3, h4⟩ := key
  refine ⟨u', ?_, h1, h2, h3, h4⟩
  have e' : f6_mean_l2 G (some wa) (some (L.1 113)) NN 0 u = some u' := e
  unfold f6_mean
  rw [e']; rfl

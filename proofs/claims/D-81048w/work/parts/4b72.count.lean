/-! THE READER: the end: nodes are counted; way and mean of a new wording -/
theorem zsI_2 {u : Sg} {a k : Nat} {x y : Int} : zsI (zsI u a k x) a k y = zsI u a k y := by
  unfold zsI
  congr 1
  congr 1
  congr 1
  funext q g
  show up2 (up2 (zI u) a k x) a k y q g = up2 (zI u) a k y q g
  unfold up2
  by_cases z : q = a ∧ g = k
  · rw [if_pos z, if_pos z]
  · rw [if_neg z, if_neg z, if_neg z]
theorem c_countN {G : CG} {L : Ly} {u : Sg} {W : Wv} {a l : Nat} {el : Nat → Nat} (hT : zT u a = 7) (hG : G0 G ≤ a) (ha : L.2 a ≠ 1) (h24 : nC W ≤ 24) (h1 : zR u a 243 = some l) (h2 : LF L u l (nC W) el) (h3 : ∀ k, k < nC W → L.2 (el k) = 1 ∧ zT u (el k) = 17 ∧ zI u (el k) 642 = W 26 k - W 25 k) : f6_countNodes G (some a) u = some (zI u a 248 + lsm (fun k => W 26 k - W 25 k) (nC W), zsI u a 249 (zI u a 248 + lsm (fun k => W 26 k - W 25 k) (nC W))) := by
  obtain ⟨b, b1, b2, b3, b4⟩ := h2
  have la : l ≠ a := fun e => ha (by rw [← e]; exact b2)
  have ba : b ≠ a := fun e => ha (by rw [← e]; exact b3)
  have B1 : ∀ x, LA (zsI u a 249 x) l b (nC W) := fun x => LA_sam b1 (sam_zsI sam_rf la) (sam_zsI sam_rf ba) (Nat.le_refl _) (fun _ _ => rfl)
  have key := loop_ind (fun q (i : Nat) => f6_countNodes_l10 G (some a) q (i : Int) (zsI u a 249 (zI u a 248 + lsm (fun k => W 26 k - W 25 k) i))) (fun i => 30 - i) (fun i => i ≤ nC W) (fun _ r => r = zsI u a 249 (zI u a 248 + lsm (fun k => W 26 k - W 25 k) (nC W))) (by
    intro q i hi ih
    show ok (f6_countNodes_l10 G (some a) (q + 1) (i : Int) (zsI u a 249 (zI u a 248 + lsm (fun k => W 26 k - W 25 k) i))) _
    unfold f6_countNodes_l10
    refine ok_eq (gfR_v (show zT (zsI u a 249 _) a = 7 from hT) (show zR (zsI u a 249 _) a 243 = some l from h1)) (ok_eq (ztg_e (B1 _).1) (ok_eq (J_size (B1 _)) ?_))
    rw [w32_n (by omega), w32_n (by omega)]
    refine ok_ite (fun hz => ok_some (by rw [show nC W = i by omega])) (fun hz => ?_)
    have hin : i < nC W := by omega
    obtain ⟨k1, k2, k3⟩ := h3 i hin
    have ne : el i ≠ a := fun e => ha (by rw [← e]; exact k1)
    refine ok_eq (gfI_v (show zT (zsI u a 249 _) a = 7 from hT) (by rw [zsI_I, if_pos ⟨rfl, rfl⟩])) (ok_eq (gfR_v (show zT (zsI u a 249 _) a = 7 from hT) (show zR (zsI u a 249 _) a 243 = some l from h1)) (ok_eq (ztg_e (B1 _).1) (ok_eq (J_get (B1 _) i rfl hin) ?_)))
    rw [show zB (zsI u a 249 (zI u a 248 + lsm (fun k => W 26 k - W 25 k) i)) b i = some (el i) from b4 i hin]
    refine ok_eq (zcast_1 (show zT (zsI u a 249 _) (el i) = 17 from k2)) (ok_eq (gfI_v (show zT (zsI u a 249 _) (el i) = 17 from k2) (show zI (zsI u a 249 _) (el i) 642 = W 26 i - W 25 i by rw [zsI_I, if_neg (fun z => ne z.1)]; exact k3)) (ok_eq (pfI_e (show zT (zsI u a 249 _) a = 7 from hT) hG) ?_))
    rw [zsI_2]
    have := ih (i + 1) (by show i + 1 ≤ nC W; omega) (by show 30 - (i + 1) < 30 - i; omega)
    rw [lsm_s] at this
    rw [Int.add_assoc]
    exact this) NN 0 (Nat.zero_le _) (NN_gt (by show 30 - 0 < 100000; omega))
  obtain ⟨r, e, hr⟩ := key
  have hr : r = zsI u a 249 (zI u a 248 + lsm (fun k => W 26 k - W 25 k) (nC W)) := hr
  subst hr
  have e : f6_countNodes_l10 G (some a) NN 0 (zsI u a 249 (zI u a 248 + lsm (fun k => W 26 k - W 25 k) 0)) = _ := e
  rw [show lsm (fun k => W 26 k - W 25 k) 0 = 0 from rfl, Int.add_zero] at e
  unfold f6_countNodes
  rw [gfI_v hT rfl, Option.bind_some, pfI_e hT hG, Option.bind_some, e, Option.bind_some, gfI_v (show zT (zsI u a 249 _) a = 7 from hT) (by rw [zsI_I, if_pos ⟨rfl, rfl⟩]), Option.bind_some]
/-- one array alone -/
def sZA (x : Nat) (u t : Sg) : Prop := (zT t = zT u ∧ zL t = zL u ∧ zI t = zI u ∧ zR t = zR u ∧ zB t = zB u ∧ zN t = zN u) ∧ ∀ a, a ≠ x → zA t a = zA u a
theorem sZA_rf {x : Nat} {u : Sg} : sZA x u u := ⟨⟨rfl, rfl, rfl, rfl, rfl, rfl⟩, fun _ _ => rfl⟩
theorem sZA_A {x i : Nat} {v : Int} {u t : Sg} (h : sZA x u t) : sZA x u (zsA t x i v) := ⟨h.1, fun a ha => by funext j; rw [zsA_A, if_neg (fun z => ha z.1), h.2 a ha]⟩
theorem sZA_scr {L : Ly} {x : Nat} {u t : Sg} (hx : L.2 x ∈ SCR) (h : sZA x u t) : scr L u t := ⟨h.1.1, h.1.2.1, h.1.2.2.2.2.1, h.1.2.2.2.2.2, fun a g _ _ => by rw [h.1.2.2.2.1], fun a ha => ⟨h.2 a (fun q => ha (by rw [q]; exact hx)), fun g _ => by rw [h.1.2.2.1]⟩⟩
/-- the starts of a wording, its facts and meanings in place -/
def WQ (G : CG) (L : Ly) (u : Sg) (a : Nat) (W : Wv) : Prop := L.2 a = 1 ∧ WR G L u a W ∧ ∃ l el, zR u a 250 = some l ∧ LF L u l (nF W) el ∧ ∀ f, f < nF W → SA L u W (el f) f
theorem WQ_k {G : CG} {L : Ly} {u u' : Sg} {a : Nat} {W : Wv} (h : frz L L u u') (k : WQ G L u a W) : WQ G L u' a W := by
  obtain ⟨h1, h2, l, el, h3, h4, h5⟩ := k
  obtain ⟨-, s⟩ := h.2 a h1
  exact ⟨h1, WR_k h s.1 (fun j _ => by rw [s.2.2.2.1]) (fun j _ => by rw [s.2.2.1]) h2, l, el, by rw [s.2.2.2.1]; exact h3, LF_k h h4, fun f hf => SA_k h (h5 f hf)⟩
theorem c_way1 {G : CG} {L : Ly} {u : Sg} {m : Mu} (h : RC G L u m) {W : Wv} {wa : Nat} (hM : WM W) (hA : WQ G L u wa W) {n : Nat} (hn : n < ug W 0) : ∃ u', f6_way G (some wa) n (some (L.1 113)) u = some u' ∧ sZA (L.1 140) u u' ∧ ∀ f, f < nF W → zA u' (L.1 140) f = val0 W n f := by
  obtain ⟨f0, f8⟩ := nF_e hM
  have hT := ug_T hM (f := 0) (Nat.zero_le _)
  have c140 : L.2 (L.1 140) ∈ SCR := by rw [rC140 h.1]; decide
  have key := loop_ind (fun q (t : Nat × Sg) => f6_way_l15 G (some wa) (some (L.1 113)) q ((n / ug W t.1 : Nat) : Int) ((t.1 : Int) - 1) t.2) (fun t => t.1) (fun t => t.1 ≤ nF W ∧ sZA (L.1 140) u t.2 ∧ ∀ f, t.1 ≤ f → f < nF W → zA t.2 (L.1 140) f = val0 W n f) (fun _ u' => sZA (L.1 140) u u' ∧ ∀ f, f < nF W → zA u' (L.1 140) f = val0 W n f) (by
    rintro q ⟨i, t⟩ ⟨g1, g2, g4⟩ ih
    simp only at g1 g2 g4
    show ok (f6_way_l15 G (some wa) (some (L.1 113)) (q + 1) ((n / ug W i : Nat) : Int) ((i : Int) - 1) t) _
    unfold f6_way_l15
    have gs := sZA_scr c140 g2
    have hRt := (RC_scr h gs).1
    obtain ⟨a1, a2, l6, e6, b4, b5, b6⟩ := WQ_k (frz_scr gs) hA
    rw [w32_id (x := (i : Int) - 1) (by omega) (by omega)]
    refine ok_ite (fun hc => ok_some ⟨g2, fun f hf => g4 f (by omega) hf⟩) (fun hc => ?_)
    obtain ⟨f, rfl⟩ : ∃ f, i = f + 1 := ⟨i - 1, by omega⟩
    have hf : f < nF W := by omega
    have ef : (((f + 1 : Nat) : Int) - 1) = (f : Int) := by omega
    rw [ef]
    obtain ⟨ns1, ns2, ns3⟩ := nS_e hM hf
    obtain ⟨q1, q2, q3, r, q4, q5, q6⟩ := b6 f hf
    have hq : n / ug W (f + 1) ≤ n := Nat.div_le_self _ _
    have hml : n / ug W (f + 1) % nS W f < nS W f := Nat.mod_lt _ ns2
    refine ok_eq (gfR_v a2.1 b4) (ok_eq (ztg_e (lf_tag b5)) (ok_eq (lf_get b5 f rfl hf) (ok_eq (zcast_1 q2) (ok_eq (gfR_v (rT113 hRt) (rR113_40 hRt)) (ok_eq (gfR_v q2 q4) (ok_eq (gfI_v q2 (q3.trans ns1)) ?_))))))
    refine ok_neg (by rw [w32_n (by omega)]; omega) ?_
    rw [rem32_n (by omega) (by omega)]
    refine ok_eq (alI_e (n / ug W (f + 1) % nS W f) q5.2.1 rfl (by rw [q5.2.2]; exact hml) (by rw [q5.2.2]; omega)) (ok_eq (asI_e f (rT140 hRt) (rG140 hRt) rfl (by rw [rL140 hRt]; omega) (by rw [rL140 hRt]; omega)) ?_)
    refine ok_eq (gfI_v (by show zT t (e6 f) = 5; exact q2) (show zI t (e6 f) 161 = (nS W f : Int) from q3.trans ns1)) ?_
    refine ok_neg (by rw [w32_n (by omega)]; omega) ?_
    rw [div32_n (by omega) (by omega), q6 _ hml, div_ug2 hf]
    have e2 : ((f : Int) + -1) = (f : Int) - 1 := by omega
    rw [e2]
    refine ih (f, _) ⟨by show f ≤ nF W; omega, sZA_A g2, fun j hj hj2 => ?_⟩ (by show f < f + 1; omega)
    show zA (zsA t (L.1 140) f _) (L.1 140) j = _
    rw [zsA_A]
    by_cases hjf : j = f
    · rw [if_pos ⟨rfl, hjf⟩, hjf]; rfl
    · rw [if_neg (fun z => hjf z.2)]; exact g4 j (by have hj : f ≤ j := hj; omega) hj2) NN (nF W, u) ⟨Nat.le_refl _, sZA_rf, fun f h1 h2 => by have h1 : nF W ≤ f := h1; omega⟩ (NN_gt (by show nF W < 100000; omega))
  obtain ⟨u', e, h1, h3⟩ := key
  refine ⟨u', ?_, h1, h3⟩
  obtain ⟨-, ⟨a2, ⟨l1, e9, b1, b2, -⟩, -⟩, -⟩ := hA
  have e' : f6_way_l15 G (some wa) (some (L.1 113)) NN ((n / ug W (nF W) : Nat) : Int) ((nF W : Int) - 1) u = some u' := e
  rw [ug_F, Nat.div_one] at e'
  unfold f6_way
  rw [gfR_v a2 b1, Option.bind_some, ztg_e (lf_tag b2), Option.bind_some, lf_size b2, Option.bind_some, e']
  rfl
theorem c_mean1 {G : CG} {L : Ly} {u : Sg} {m : Mu} (h : RC G L u m) {W : Wv} {wa : Nat} (hM : WM W) (hA : WQ G L u wa W) {v : Nat → Int} (hv : ∀ f, f < nF W → zA u (L.1 140) f = v f ∧ w32 (v f) = v f) : ∃ u', f6_mean G (some wa) (some (L.1 113)) u = some u' ∧ sZA (L.1 141) u u' ∧ ∀ k, k < nM W → zA u' (L.1 141) k = mnO W v k := by
  have hM1 := hM.1
  have e19 : W 19 0 = (nM W : Int) := by unfold nM; omega
  have c141 : L.2 (L.1 141) ∈ SCR := by rw [rC141 h.1]; decide
  have key := loop_ind (fun q (t : Nat × Sg) => f6_mean_l2 G (some wa) (some (L.1 113)) q (t.1 : Int) t.2) (fun t => nM W - t.1) (fun t => t.1 ≤ nM W ∧ sZA (L.1 141) u t.2 ∧ ∀ k, k < t.1 → zA t.2 (L.1 141) k = mnA W v t.1 k) (fun _ u' => sZA (L.1 141) u u' ∧ ∀ k, k < nM W → zA u' (L.1 141) k = mnO W v k) (by
    rintro q ⟨i, t⟩ ⟨g1, g2, g5⟩ ih
    simp only at g1 g2 g5
    show ok (f6_mean_l2 G (some wa) (some (L.1 113)) (q + 1) (i : Int) t) _
    unfold f6_mean_l2
    have gs := sZA_scr c141 g2
    have ht := RC_scr h gs
    have hRt := ht.1
    have g4 : ∀ f, f < nF W → zA t (L.1 140) f = v f := fun f hf => by rw [g2.2 _ (rne (rC140 hRt) (rC141 hRt) (by decide))]; exact (hv f hf).1
    obtain ⟨-, ⟨a2, -, -, ⟨l3, e3, b1, b2, b3⟩, -⟩, -⟩ := WQ_k (frz_scr gs) hA
    refine ok_eq (gfR_v a2 b1) (ok_eq (ztg_e (lf_tag b2)) (ok_eq (lf_size b2) ?_))
    rw [w32_n (by omega), w32_n (by omega)]
    refine ok_ite (fun hc => ok_some ?_) (fun hc => ?_)
    · have : i = nM W := by omega
      subst this
      exact ⟨g2, g5⟩
    · have hi : i < nM W := by omega
      have hca := b3 i hi
      have hct : zT t (e3 i) ∈ [12, 13, 14, 15, 16] := by
        obtain ⟨-, q | q | q | q | q⟩ := hca <;> rw [q.1] <;> decide
      refine ok_eq (gfR_v (rT113 hRt) (rR113_41 hRt)) (ok_eq (gfR_v a2 b1) (ok_eq (ztg_e (lf_tag b2)) (ok_eq (lf_get b2 i rfl hi) (ok_eq (zcast_e hct) ?_))))
      have et := c_tru ht hM (v := v) (a := mnA W v i) (nm := (i : Int)) (by omega) (hM.2.2.1 i hi) hca (fun f hf => ⟨g4 f hf, (hv f hf).2⟩) (fun k hk => ⟨g5 k (by omega), mnA_01 W v i k⟩)
      refine ok_eq et (ok_eq (asI_e i (rT141 hRt) (rG141 hRt) rfl (by rw [rL141 hRt]; omega) (by rw [rL141 hRt]; omega)) ?_)
      rw [nz_b]
      refine ih (i + 1, _) ⟨by show i + 1 ≤ nM W; omega, sZA_A g2, fun k hk => ?_⟩ (by show nM W - (i + 1) < nM W - i; omega)
      show zA (zsA t (L.1 141) i _) (L.1 141) k = mnA W v (i + 1) k
      rw [zsA_A, show mnA W v (i + 1) k = if k = i then b2i (tru v (mnA W v i) (seg W (W 21 i) (W 22 i))) else mnA W v i k from rfl]
      by_cases hki : k = i
      · rw [if_pos ⟨rfl, hki⟩, if_pos hki]
      · rw [if_neg (fun z => hki z.2), if_neg hki]
        exact g5 k (by have hk : k < i + 1 := hk; omega)) NN (0, u) ⟨Nat.zero_le _, sZA_rf, fun k hk => absurd hk (Nat.not_lt_zero _)⟩ (NN_gt (by show nM W - 0 < 100000; omega))
  obtain ⟨u', e, h1, h4⟩ := key
  refine ⟨u', ?_, h1, h4⟩
  have e' : f6_mean_l2 G (some wa) (some (L.1 113)) NN 0 u = some u' := e
  unfold f6_mean
  rw [e']; rfl

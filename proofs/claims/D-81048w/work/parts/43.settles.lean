/-! THE CALL settles -/
/-- the answers hang on the facts in s alone -/
def sA (W : Wv) (dg : Nat → Int) (s : Nat) : Prop := ∀ n n', inM W dg n → inM W dg n' → (∀ f, f < nF W → s.testBit f = true → dig W n f = dig W n' f) → aw W n = aw W n'
noncomputable def sB (W : Wv) (dg : Nat → Int) (s : Nat) : Bool := @decide (sA W dg s) (Classical.propDecidable _)
theorem sB_t {W : Wv} {dg : Nat → Int} {s : Nat} (h : sA W dg s) : sB W dg s = true := @decide_eq_true _ (Classical.propDecidable _) h
theorem sB_f {W : Wv} {dg : Nat → Int} {s : Nat} (h : ¬ sA W dg s) : sB W dg s = false := @decide_eq_false _ (Classical.propDecidable _) h
/-- a table of answers by keys -/
def TI (W : Wv) (dg : Nat → Int) (key : Nat → Nat) (k : Nat) (t : Nat → Int) : Prop := (∀ c, c < 2000 → (t c = -1 ∧ ∀ n, inM W dg n → n < k → key n ≠ c) ∨ ∃ n, inM W dg n ∧ n < k ∧ key n = c ∧ t c = b2i (aw W n)) ∧ ∀ n n', inM W dg n → inM W dg n' → n < k → n' < k → key n = key n' → aw W n = aw W n'
theorem TI_skip {W : Wv} {dg : Nat → Int} {key : Nat → Nat} {k j : Nat} {t : Nat → Int} (h : TI W dg key k t) (hkj : k ≤ j) (hg : ∀ n, inM W dg n → k ≤ n → n < j → False) : TI W dg key j t := by
  have lt : ∀ n, inM W dg n → n < j → n < k := fun n hn hj => Classical.byContradiction (fun hc => hg n hn (by omega) hj)
  refine ⟨fun c hc => ?_, fun n n' h1 h2 h3 h4 => h.2 n n' h1 h2 (lt n h1 h3) (lt n' h2 h4)⟩
  rcases h.1 c hc with ⟨a, b⟩ | ⟨n, a, b, d⟩
  · exact Or.inl ⟨a, fun n hn hj => b n hn (lt n hn hj)⟩
  · exact Or.inr ⟨n, a, by omega, d⟩
theorem TI_put {W : Wv} {dg : Nat → Int} {key : Nat → Nat} {k : Nat} {t : Nat → Int} (h : TI W dg key k t) (hk : inM W dg k) (hc : key k < 2000) (ht : t (key k) < 0 ∨ t (key k) = b2i (aw W k)) : TI W dg key (k + 1) (va_up t (key k) (b2i (aw W k))) := by
  have same : ∀ n, inM W dg n → n < k → key n = key k → aw W n = aw W k := by
    intro n hn hlt he
    rcases h.1 (key k) hc with ⟨a, b⟩ | ⟨n', a, b, d, e⟩
    · exact absurd he (b n hn hlt)
    · have h1 := h.2 n n' hn a hlt b (by rw [he, d])
      rcases ht with ht | ht
      · rw [e] at ht; revert ht; unfold b2i; split <;> omega
      · rw [e] at ht
        rw [h1]
        revert ht; cases aw W n' <;> cases aw W k <;> simp [b2i]
  refine ⟨fun c hc2 => ?_, fun n n' h1 h2 h3 h4 h5 => ?_⟩
  · rw [va_up_e]
    by_cases hck : c = key k
    · rw [if_pos hck]; exact Or.inr ⟨k, hk, by omega, hck.symm, rfl⟩
    · rw [if_neg hck]
      rcases h.1 c hc2 with ⟨a, b⟩ | ⟨n, a, b, d⟩
      · refine Or.inl ⟨a, fun n hn hj => ?_⟩
        by_cases hnk : n = k
        · rw [hnk]; exact fun q => hck q.symm
        · exact b n hn (by omega)
      · exact Or.inr ⟨n, a, by omega, d⟩
  · by_cases a : n = k
    · by_cases b : n' = k
      · rw [a, b]
      · rw [a]; rw [a] at h5; exact (same n' h2 (by omega) h5.symm).symm
    · by_cases b : n' = k
      · rw [b]; rw [b] at h5; exact same n h1 (by omega) h5
      · exact h.2 n n' h1 h2 (by omega) (by omega) h5
theorem TI_bad {W : Wv} {dg : Nat → Int} {key : Nat → Nat} {k s : Nat} {t : Nat → Int} (h : TI W dg key k t) (hk : inM W dg k) (hc : key k < 2000) (hinj : ∀ n n', inM W dg n → inM W dg n' → key n = key n' → ∀ f, f < nF W → s.testBit f = true → dig W n f = dig W n' f) (h0 : ¬ t (key k) < 0) (h1 : t (key k) ≠ b2i (aw W k)) : ¬ sA W dg s := by
  intro hs
  rcases h.1 (key k) hc with ⟨a, b⟩ | ⟨n, a, b, d, e⟩
  · omega
  · have := hs n k a hk (hinj n k a hk d)
    rw [this] at e
    exact h1 e
theorem TI_end {W : Wv} {dg : Nat → Int} {key : Nat → Nat} {k s : Nat} {t : Nat → Int} (h : TI W dg key k t) (hk : ∀ n, inM W dg n → n < k) (hcg : ∀ n n', (∀ f, f < nF W → s.testBit f = true → dig W n f = dig W n' f) → key n = key n') : sA W dg s := fun n n' h1 h2 h3 => h.2 n n' h1 h2 (hk n h1) (hk n' h2) (hcg n n' h3)
theorem TI_0 {W : Wv} {dg : Nat → Int} {key : Nat → Nat} {t : Nat → Int} (h : ∀ c, c < 2000 → t c = -1) : TI W dg key 0 t := ⟨fun c hc => Or.inl ⟨h c hc, fun n _ hn => absurd hn (Nat.not_lt_zero _)⟩, fun n n' _ _ hn => absurd hn (Nat.not_lt_zero _)⟩
/-! the class's key -/
def kyD (W : Wv) (s n : Nat) (f : Nat) : Nat := if s.testBit f then dig W n f else 0
def kyC (W : Wv) (s n : Nat) : Nat := hor W (kyD W s n) (nF W)
theorem kyD_lt {W : Wv} (hS : ∀ f, f < nF W → 1 ≤ nS W f) {s n f : Nat} (hf : f < nF W) : kyD W s n f < nS W f := by
  unfold kyD
  split
  · exact dig_lt hS hf
  · exact hS f hf
theorem kyC_inj {W : Wv} (hS : ∀ f, f < nF W → 1 ≤ nS W f) {s n n' : Nat} (h : kyC W s n = kyC W s n') : ∀ f, f < nF W → s.testBit f = true → dig W n f = dig W n' f := by
  intro f hf hb
  have h1 := hor_dig (d := kyD W s n) (fun f hf => kyD_lt hS hf) hf
  have h2 := hor_dig (d := kyD W s n') (fun f hf => kyD_lt hS hf) hf
  unfold kyC at h
  rw [h, h2] at h1
  unfold kyD at h1
  rw [if_pos hb, if_pos hb] at h1
  exact h1.symm
theorem kyC_cg {W : Wv} {s n n' : Nat} (h : ∀ f, f < nF W → s.testBit f = true → dig W n f = dig W n' f) : kyC W s n = kyC W s n' := by
  have key : ∀ k, k ≤ nF W → hor W (kyD W s n) k = hor W (kyD W s n') k := by
    intro k
    induction k with
    | zero => intro _; rfl
    | succ k ih =>
      intro hk
      simp only [hor]
      rw [ih (by omega)]
      congr 1
      unfold kyD
      by_cases hb : s.testBit k = true
      · rw [if_pos hb, if_pos hb, h k (by omega) hb]
      · rw [if_neg hb, if_neg hb]
  exact key _ (Nat.le_refl _)
theorem c_key {G : CG} {L : Ly} {u : Sg} {m : Mu} (h : RC G L u m) {W : Wv} {wa : Nat} {dg : Nat → Int} {K : Nat} (hM : WM W) (hA : WA G L u wa W) (hS : WS L u W wa dg K) {s n : Nat} (hs : s < 256) (hn : n < ug W 0) : f2_settles_l59 G (some (L.1 114)) s n u NN 0 0 = some ((kyC W s n : Nat) : Int) := by
  have hR := h.1
  obtain ⟨f0, f8⟩ := nF_e hM
  obtain ⟨w1, w2, w3, w4, w5⟩ := hS
  obtain ⟨⟨a1, a2⟩, ⟨l1, e9, b1, b2, -⟩, -, -, -, -, -, -, ⟨l6, e6, b4, b5, b6⟩, -⟩ := hA
  have hT := ug_T hM (f := 0) (Nat.zero_le _)
  have key := loop_ind (fun q (i : Nat) => f2_settles_l59 G (some (L.1 114)) s n u q ((hor W (kyD W s n) i * ug W i : Nat) : Int) (i : Int)) (fun i => nF W - i) (fun i => i ≤ nF W) (fun _ x => x = ((kyC W s n : Nat) : Int)) (by
    rintro q i hi ih
    show ok (f2_settles_l59 G (some (L.1 114)) s n u (q + 1) ((hor W (kyD W s n) i * ug W i : Nat) : Int) (i : Int)) _
    unfold f2_settles_l59
    refine ok_eq (gfR_v (rT114 hR) w1) (ok_eq (gfR_v a2 b1) (ok_eq (ztg_e (lf_tag b2)) (ok_eq (lf_size b2) ?_)))
    rw [w32_n (by omega), w32_n (by omega)]
    refine ok_ite (fun hc => ok_some ?_) (fun hc => ?_)
    · have : i = nF W := by omega
      subst this
      rw [ug_F, Nat.mul_one]; rfl
    · have hif : i < nF W := by omega
      have hrec := ih (i + 1) (by omega) (by omega)
      have hst : hor W (kyD W s n) (i + 1) * ug W (i + 1) = hor W (kyD W s n) i * ug W i + kyD W s n i * ug W (i + 1) := by
        rw [ug_S hif]
        simp only [hor]
        rw [Nat.add_mul, Nat.mul_assoc]
      by_cases hb : s.testBit i = true
      · refine ok_pos ((bit1 hs (by omega)).mpr hb) ?_
        obtain ⟨z1, z2⟩ := w5 i hif
        have hu := ug_T hM (f := i + 1) (by omega)
        obtain ⟨ns1, ns2, ns3⟩ := nS_e hM hif
        have sA := b6 i hif
        refine ok_eq (gfR_v (rT114 hR) (rR114_83 hR)) (ok_eq (alI_e i (rT143 hR) rfl (by rw [rL143 hR]; omega) (by rw [rL143 hR]; omega)) ?_)
        rw [z2]
        refine ok_neg (by rw [w32_n (by omega)]; omega) ?_
        refine ok_eq (gfR_v (rT114 hR) w1) (ok_eq (gfR_v a2 b4) (ok_eq (ztg_e (lf_tag b5)) (ok_eq (lf_get b5 i rfl hif) (ok_eq (zcast_1 sA.2.1) (ok_eq (gfI_v sA.2.1 (sA.2.2.1.trans ns1)) ?_)))))
        refine ok_neg (by rw [w32_n (by omega)]; omega) ?_
        refine ok_eq (gfR_v (rT114 hR) (rR114_83 hR)) (ok_eq (alI_e i (rT143 hR) rfl (by rw [rL143 hR]; omega) (by rw [rL143 hR]; omega)) ?_)
        have hq : n / ug W (i + 1) ≤ n := Nat.div_le_self _ _
        rw [z2, div32_n (by omega) (by omega), rem32_n (by omega) (by omega)]
        have e : (((hor W (kyD W s n) i * ug W i : Nat) : Int) + ((n / ug W (i + 1) % nS W i : Nat) : Int) * ((ug W (i + 1) : Nat) : Int)) = ((hor W (kyD W s n) (i + 1) * ug W (i + 1) : Nat) : Int) := by
          rw [hst]
          have : kyD W s n i = n / ug W (i + 1) % nS W i := by unfold kyD; rw [if_pos hb]; rfl
          rw [this, Int.natCast_add, Int.natCast_mul (n / ug W (i + 1) % nS W i)]
        rw [e]
        exact hrec
      · refine ok_neg (fun z => hb ((bit1 hs (by omega)).mp z)) ?_
        have : kyD W s n i = 0 := by unfold kyD; rw [if_neg hb]
        rw [this, Nat.zero_mul] at hst
        have hst : hor W (kyD W s n) (i + 1) * ug W (i + 1) = hor W (kyD W s n) i * ug W i := hst
        rw [← hst]
        exact hrec) NN 0 (Nat.zero_le _) (NN_gt (by omega))
  obtain ⟨x, ex, rfl⟩ := key
  have ex' : f2_settles_l59 G (some (L.1 114)) s n u NN ((hor W (kyD W s n) 0 * ug W 0 : Nat) : Int) 0 = _ := ex
  rw [show hor W (kyD W s n) 0 * ug W 0 = 0 from Nat.zero_mul _] at ex'
  exact ex'
theorem WS_145 {G : CG} {L : Ly} {u : Sg} {W : Wv} {wa : Nat} {dg : Nat → Int} {K i : Nat} {x : Int} (hR : Rt G u L) (hS : WS L u W wa dg K) : WS L (zsA u (L.1 145) i x) W wa dg K := by
  obtain ⟨w1, w2, w3, w4, w5⟩ := hS
  refine ⟨w1, w2, w3, w4, fun f hf => ?_⟩
  rw [zA_ne (rne (rC142 hR) (rC145 hR) (by decide)), zA_ne (rne (rC143 hR) (rC145 hR) (by decide))]
  exact w5 f hf
theorem c_settles {G : CG} {L : Ly} {u : Sg} {m : Mu} (h : RC G L u m) {W : Wv} {wa : Nat} {dg : Nat → Int} {K : Nat} (hM : WM W) (hA : WA G L u wa W) (hS : WS L u W wa dg K) (hd2 : ∀ f, f < nF W → -1 ≤ dg f ∧ dg f < nS W f) {s : Nat} (hs : s < 256) : ∃ u', f2_settles G (some (L.1 114)) s u = some (b2i (sB W dg s), u') ∧ scr L u u' ∧ WS L u' W wa dg K := by
  have hR := h.1
  have hSn : ∀ f, f < nF W → 1 ≤ nS W f := fun f hf => (nS_e hM hf).2.1
  have c145 : L.2 (L.1 145) ∈ SCR := by rw [rC145 hR]; decide
  have hT := ug_T hM (f := 0) (Nat.zero_le _)
  have h40 := hM.2.2.2.2.2.2.2.1
  rw [← ug_0] at h40
  have kylt : ∀ n, kyC W s n < ug W 0 := fun n => hor_lt (fun f hf => kyD_lt hSn hf)
  -- the first loop
  have key1 := loop_ind (fun q (t : Nat × Sg) => f2_settles_l2 G (some (L.1 114)) s q (t.1 : Int) t.2) (fun t => ug W 0 - t.1) (fun t => t.1 ≤ ug W 0 ∧ scr L u t.2 ∧ WS L t.2 W wa dg K ∧ ∀ c, c < t.1 → zA t.2 (L.1 145) c = -1) (fun _ u' => scr L u u' ∧ WS L u' W wa dg K ∧ ∀ c, c < ug W 0 → zA u' (L.1 145) c = -1) (by
    rintro q ⟨n, t⟩ ⟨g1, g2, g3, g4⟩ ih
    simp only at g1 g2 g3 g4
    show ok (f2_settles_l2 G (some (L.1 114)) s (q + 1) (n : Int) t) _
    unfold f2_settles_l2
    have hRt := (RC_scr h g2).1
    obtain ⟨⟨a1, a2⟩, -, -, -, -, -, -, ⟨n1, n2, n3⟩, -⟩ := WA_k (frz_scr g2) hA
    refine ok_eq (gfR_v (rT114 hRt) g3.1) (ok_eq (gfI_v a2 (n2.trans h40.1)) ?_)
    rw [w32_n (by omega), w32_n (by omega)]
    refine ok_ite (fun hc => ok_some ?_) (fun hc => ?_)
    · have : n = ug W 0 := by omega
      subst this
      exact ⟨g2, g3, g4⟩
    · refine ok_eq (gfR_v (rT114 hRt) (rR114_85 hRt)) (ok_eq (asI_e n (rT145 hRt) (rG145 hRt) rfl (by rw [rL145 hRt]; omega) (by rw [rL145 hRt]; omega)) ?_)
      refine ih (n + 1, _) ⟨by show n + 1 ≤ ug W 0; omega, scr_A g2 c145, WS_145 hRt g3, fun c hc2 => ?_⟩ (by show ug W 0 - (n + 1) < ug W 0 - n; omega)
      have hc2 : c < n + 1 := hc2
      show zA (zsA t (L.1 145) n (w8 (-1))) (L.1 145) c = -1
      rw [zsA_A]
      by_cases hcn : c = n
      · rw [if_pos ⟨rfl, hcn⟩]; rfl
      · rw [if_neg (fun z => hcn z.2)]; exact g4 c (by omega)) NN (0, u) ⟨Nat.zero_le _, scr_rf, hS, fun c hc => absurd hc (Nat.not_lt_zero _)⟩ (NN_gt (by show ug W 0 - 0 < 100000; omega))
  obtain ⟨u1, e1, s1, hS1, t1⟩ := key1
  -- the table beyond the ways does not matter
  have key2 := loop_ind (fun q (t : Nat × Sg) => f2_settles_l28 G (some (L.1 114)) s q (t.1 : Int) t.2) (fun t => ug W 0 - t.1) (fun t => t.1 ≤ ug W 0 ∧ scr L u t.2 ∧ WS L t.2 W wa dg K ∧ TI W dg (kyC W s) t.1 (fun c => if c < ug W 0 then zA t.2 (L.1 145) c else -1)) (fun _ r => ∃ u', scr L u u' ∧ WS L u' W wa dg K ∧ ((r = .inl u' ∧ ¬ sA W dg s) ∨ (r = .inr u' ∧ sA W dg s))) (by
    rintro q ⟨n, t⟩ ⟨g1, g2, g3, g4⟩ ih
    simp only at g1 g2 g3 g4
    show ok (f2_settles_l28 G (some (L.1 114)) s (q + 1) (n : Int) t) _
    unfold f2_settles_l28
    have ht := RC_scr h g2
    have hRt := ht.1
    have hAt0 := WA_k (frz_scr g2) hA
    obtain ⟨⟨a1, a2⟩, -, -, -, -, -, -, ⟨n1, n2, n3⟩, -, ⟨x, y, x1, x2, x3, x4, x5⟩⟩ := WA_k (frz_scr g2) hA
    refine ok_eq (gfR_v (rT114 hRt) g3.1) (ok_eq (gfI_v a2 (n2.trans h40.1)) ?_)
    rw [w32_n (by omega), w32_n (by omega)]
    refine ok_ite (fun hc => ok_some ⟨t, g2, g3, Or.inr ⟨rfl, ?_⟩⟩) (fun hc => ?_)
    · have : n = ug W 0 := by omega
      subst this
      exact TI_end g4 (fun n hn => hn.1) (fun a b hab => kyC_cg hab)
    · have hn : n < ug W 0 := by omega
      refine ok_eq (gfI_v (rT114 hRt) g3.2.1) (ok_eq (ztg_e (rT114 hRt)) (ok_eq (c_isOne ht hM hAt0 g3 hS.2.2.1 (fun f _ hb => (WS_bit hS hb).2) (fun f hf => (hd2 f hf).2) hn) ?_))
      have emt : mt W (dgs dg K) n = mt W dg n := mtB_cg _ (dgs_K hS (fun f hf => (hd2 f hf).1))
      rw [w32_b2i, emt]
      refine ok_ite (fun hz => ?_) (fun hz => ?_)
      · have hmt : mt W dg n = false := b2i_0.mp hz
        refine ih (n + 1, t) ⟨by show n + 1 ≤ ug W 0; omega, g2, g3, TI_skip g4 (by show n ≤ n + 1; omega) (fun n' hn' h1 h2 => ?_)⟩ (by show ug W 0 - (n + 1) < ug W 0 - n; omega)
        have h2 : n' < n + 1 := h2
        have : n' = n := by omega
        rw [this] at hn'
        have := (mt_in hn).mpr hn'
        rw [hmt] at this; cases this
      · have hmt : mt W dg n = true := by revert hz; cases mt W dg n <;> simp [b2i]
        have hin := (mt_in hn).mp hmt
        have x5n := (x5 n (by rw [← ug_0]; exact hn)).1
        rw [hM.2.2.2.2.2.2.2.2.1 n (by rw [← ug_0]; exact hn)] at x5n
        have hky := kylt n
        have rd : alI t 2 (some (L.1 145)) ((kyC W s n : Nat) : Int) = some (zA t (L.1 145) (kyC W s n)) := alI_e (kyC W s n) (rT145 hRt) rfl (by rw [rL145 hRt]; omega) (by rw [rL145 hRt]; omega)
        have ra : alI t 2 (some x) (n : Int) = some (b2i (aw W n)) := (alI_e n x3.2.1 rfl (by rw [x3.2.2, ← ug_0]; exact hn) (by rw [x3.2.2, ← ug_0]; omega)).trans (by rw [x5n])
        have tv : (fun c => if c < ug W 0 then zA t (L.1 145) c else -1) (kyC W s n) = zA t (L.1 145) (kyC W s n) := if_pos hky
        have tb : zA t (L.1 145) (kyC W s n) = -1 ∨ zA t (L.1 145) (kyC W s n) = 0 ∨ zA t (L.1 145) (kyC W s n) = 1 := by
          rcases g4.1 (kyC W s n) (by omega) with ⟨q1, -⟩ | ⟨n', -, -, -, q1⟩
          · rw [tv] at q1; exact Or.inl q1
          · rw [tv] at q1; rw [q1]; cases aw W n' <;> simp [b2i]
        refine ok_eq (c_key ht hM hAt0 g3 hs hn) (ok_eq (gfR_v (rT114 hRt) (rR114_85 hRt)) (ok_eq rd ?_))
        rw [w32_id (x := zA t (L.1 145) (kyC W s n)) (by omega) (by omega)]
        have put : (zA t (L.1 145) (kyC W s n) < 0 ∨ zA t (L.1 145) (kyC W s n) = b2i (aw W n)) → ok (f2_settles_b162 G (f2_settles_l28 G (some (L.1 114)) s q) (some (L.1 114)) s (n : Int) ((kyC W s n : Nat) : Int) t) (fun r => ∃ u', scr L u u' ∧ WS L u' W wa dg K ∧ ((r = .inl u' ∧ ¬ sA W dg s) ∨ (r = .inr u' ∧ sA W dg s))) := by
          intro hput
          unfold f2_settles_b162
          refine ok_eq (gfR_v (rT114 hRt) (rR114_85 hRt)) (ok_eq (gfR_v (rT114 hRt) g3.1) (ok_eq (gfR_v a2 x1) (ok_eq ra (ok_eq (asI_e (kyC W s n) (rT145 hRt) (rG145 hRt) rfl (by rw [rL145 hRt]; omega) (by rw [rL145 hRt]; omega)) ?_))))
          have hw8 : w8 (b2i (aw W n)) = b2i (aw W n) := by cases aw W n <;> rfl
          rw [hw8]
          refine ih (n + 1, _) ⟨by show n + 1 ≤ ug W 0; omega, scr_A g2 c145, WS_145 hRt g3, ?_⟩ (by show ug W 0 - (n + 1) < ug W 0 - n; omega)
          have := TI_put g4 hin (by omega) (by simp only [if_pos hky]; exact hput)
          have ef : (va_up (fun c => if c < ug W 0 then zA t (L.1 145) c else -1) (kyC W s n) (b2i (aw W n))) = fun c => if c < ug W 0 then zA (zsA t (L.1 145) (kyC W s n) (b2i (aw W n))) (L.1 145) c else -1 := by
            funext c
            rw [va_up_e]
            by_cases hck : c = kyC W s n
            · rw [if_pos hck, hck, if_pos hky, zsA_A, if_pos ⟨rfl, rfl⟩]
            · rw [if_neg hck]
              have : zA (zsA t (L.1 145) (kyC W s n) (b2i (aw W n))) (L.1 145) c = zA t (L.1 145) c := by rw [zsA_A, if_neg (fun z => hck z.2)]
              rw [this]
          rw [ef] at this
          exact this
        refine ok_ite (fun hneg => put (Or.inl hneg)) (fun hneg => ?_)
        refine ok_eq (gfR_v (rT114 hRt) (rR114_85 hRt)) (ok_eq rd (ok_eq (gfR_v (rT114 hRt) g3.1) (ok_eq (gfR_v a2 x1) (ok_eq ra ?_))))
        rw [w32_id (x := zA t (L.1 145) (kyC W s n)) (by omega) (by omega), w32_b2i]
        refine ok_ite (fun he => put (Or.inr he)) (fun he => ok_some ⟨t, g2, g3, Or.inl ⟨rfl, ?_⟩⟩)
        exact TI_bad g4 hin (by omega) (fun a b _ _ hab => kyC_inj hSn hab) (by simp only [if_pos hky]; exact hneg) (by simp only [if_pos hky]; exact he)) NN (0, u1) ⟨Nat.zero_le _, s1, hS1, TI_0 (fun c _ => by
      show (if c < ug W 0 then zA u1 (L.1 145) c else -1) = -1
      split
      · next hc => exact t1 c hc
      · rfl)⟩ (NN_gt (by show ug W 0 - 0 < 100000; omega))
  obtain ⟨r, e2, u', q1, q2, q3⟩ := key2
  refine ⟨u', ?_, q1, q2⟩
  unfold f2_settles
  have e1' : f2_settles_l2 G (some (L.1 114)) s NN 0 u = some u1 := e1
  have e2' : f2_settles_l28 G (some (L.1 114)) s NN 0 u1 = some r := e2
  rw [e1', Option.bind_some, e2', Option.bind_some]
  rcases q3 with ⟨rfl, hn⟩ | ⟨rfl, hy⟩
  · rw [sB_f hn]; rfl
  · rw [sB_t hy]; rfl

/-! THE READER: the end: a wording that was read, as it lies in the heap -/
/-- all of a wording but its starts and answers -/
def WR (G : CG) (L : Ly) (u : Sg) (a : Nat) (W : Wv) : Prop :=
  zT u a = 7 ∧
  (∃ l el, zR u a 240 = some l ∧ LF L u l (nF W) el ∧ ∀ f, f < nF W → FA L u W (el f) f) ∧
  (∃ l el, zR u a 241 = some l ∧ LF L u l (nM W) el ∧ ∀ k, k < nM W → L.2 (el k) = 1 ∧ zT u (el k) = 29 ∧ NM (zI u (el k) 1120) (W 20 k)) ∧
  (∃ l el, zR u a 242 = some l ∧ LF L u l (nM W) el ∧ ∀ k, k < nM W → CA (FW L u W) G u 100 (el k) (seg W (W 21 k) (W 22 k))) ∧
  (∃ l el, zR u a 243 = some l ∧ LF L u l (nC W) el ∧ ∀ k, k < nC W → L.2 (el k) = 1 ∧ zT u (el k) = 17 ∧ zI u (el k) 640 = W 24 k ∧ zI u (el k) 642 = W 26 k - W 25 k ∧ ∃ c, zR u (el k) 641 = some c ∧ CA (FW L u W) G u 100 c (seg W (W 25 k) (W 26 k))) ∧
  (∃ l el, zR u a 244 = some l ∧ LF L u l (nP W) el ∧ ∀ k, k < nP W → L.2 (el k) = 1 ∧ zT u (el k) = 18 ∧ zI u (el k) 680 + 15 = W 28 k ∧ zI u (el k) 681 = W 29 k ∧ ((zR u (el k) 682 = none ∧ W 30 k = W 31 k) ∨ (W 30 k < W 31 k ∧ ∃ c, zR u (el k) 682 = some c ∧ CA (FW L u W) G u 100 c (seg W (W 30 k) (W 31 k))))) ∧
  (zI u a 245 = W 32 0 ∧ zI u a 246 = W 32 1 ∧ ∃ d, zR u a 247 = some d ∧ AF L u d 101 3 ∧ ∀ k, k < 3 → zA u d k = W 32 (2 + k)) ∧
  zI u a 248 = ((List.range (nM W)).map fun k => W 22 k - W 21 k).sum + ((List.range (nP W)).map fun k => W 31 k - W 30 k).sum
theorem WR_k {G : CG} {L L' : Ly} {u u' : Sg} {a : Nat} {W : Wv} (h : frz L L' u u') (p1 : zT u' a = zT u a) (p4 : ∀ j, j ≤ 247 → zR u' a j = zR u a j) (p3 : ∀ j, j = 245 ∨ j = 246 ∨ j = 248 → zI u' a j = zI u a j) (k : WR G L u a W) : WR G L' u' a W := by
  obtain ⟨h2, ⟨l1, e1, a1, b1, c1⟩, ⟨l2, e2, a2, b2, c2⟩, ⟨l3, e3, a3, b3, c3⟩, ⟨l4, e4, a4, b4, c4⟩, ⟨l5, e5, a5, b5, c5⟩, ⟨s1, s2, d, s3, s4, s5⟩, n3⟩ := k
  unfold WR
  rw [p1, p3 245 (by omega), p3 246 (by omega), p3 248 (by omega), p4 240 (by omega), p4 241 (by omega), p4 242 (by omega), p4 243 (by omega), p4 244 (by omega), p4 247 (by omega)]
  refine ⟨h2, ⟨l1, e1, a1, LF_k h b1, fun f hf => FA_k h (c1 f hf)⟩, ⟨l2, e2, a2, LF_k h b2, fun k hk => ?_⟩, ⟨l3, e3, a3, LF_k h b3, fun k hk => CA_k h (c3 k hk)⟩, ⟨l4, e4, a4, LF_k h b4, fun k hk => ?_⟩, ⟨l5, e5, a5, LF_k h b5, fun k hk => ?_⟩, ⟨s1, s2, d, s3, AF_k h s4, fun k hk => ?_⟩, n3⟩
  · obtain ⟨q1, q2, q3⟩ := c2 k hk
    obtain ⟨r0, r1, r2, r3, r4⟩ := h.2 _ q1
    exact ⟨r0, by rw [r1]; exact q2, by rw [r3]; exact q3⟩
  · obtain ⟨q1, q2, q3, q4, c, q5, q6⟩ := c4 k hk
    obtain ⟨r0, r1, r2, r3, r4, -⟩ := h.2 _ q1
    exact ⟨r0, by rw [r1]; exact q2, by rw [r3]; exact q3, by rw [r3]; exact q4, c, by rw [r4]; exact q5, CA_k h q6⟩
  · obtain ⟨q1, q2, q3, q4, q5⟩ := c5 k hk
    obtain ⟨r0, r1, r2, r3, r4, -⟩ := h.2 _ q1
    refine ⟨r0, by rw [r1]; exact q2, by rw [r3]; exact q3, by rw [r3]; exact q4, ?_⟩
    rw [r4]
    rcases q5 with q5 | ⟨q5, c, q6, q7⟩
    · exact Or.inl q5
    · exact Or.inr ⟨q5, c, q6, CA_k h q7⟩
  · rw [(h.2 d s4.1).2.2.2.2.2.1]; exact s5 k hk
/-- starts and answers do not count in it -/
theorem WR_4 {G : CG} {L : Ly} {u : Sg} {a : Nat} {W W' : Wv} (h : Wq4 W W') : WR G L u a W' = WR G L u a W := by
  unfold WR FA FW
  rw [nF_4 h, nM_4 h, nC_4 h, nP_4 h, seg_4 h, h 13 (by decide) (by decide) (by decide) (by decide), h 14 (by decide) (by decide) (by decide) (by decide), h 15 (by decide) (by decide) (by decide) (by decide), h 16 (by decide) (by decide) (by decide) (by decide), h 17 (by decide) (by decide) (by decide) (by decide), h 18 (by decide) (by decide) (by decide) (by decide), h 20 (by decide) (by decide) (by decide) (by decide), h 21 (by decide) (by decide) (by decide) (by decide), h 22 (by decide) (by decide) (by decide) (by decide), h 24 (by decide) (by decide) (by decide) (by decide), h 25 (by decide) (by decide) (by decide) (by decide), h 26 (by decide) (by decide) (by decide) (by decide), h 28 (by decide) (by decide) (by decide) (by decide), h 29 (by decide) (by decide) (by decide) (by decide), h 30 (by decide) (by decide) (by decide) (by decide), h 31 (by decide) (by decide) (by decide) (by decide), h 32 (by decide) (by decide) (by decide) (by decide)]
/-- it parts its facts -/
theorem WR_Pt {G : CG} {L : Ly} {u : Sg} {a : Nat} {W : Wv} (ha : L.2 a ≤ 1) (h : WR G L u a W) : WPt G L u a W := by
  obtain ⟨h2, -, -, ⟨l3, e3, a3, b3, c3⟩, ⟨l4, e4, a4, b4, c4⟩, ⟨l5, e5, a5, b5, c5⟩, -⟩ := h
  refine ⟨⟨h2, ha⟩, ⟨l3, e3, a3, LF_G b3, fun k hk => CA_FG (c3 k hk)⟩, ⟨l4, e4, a4, LF_G b4, fun k hk => ?_⟩, ⟨l5, e5, a5, LF_G b5, fun k hk => ?_⟩⟩
  · obtain ⟨q1, q2, -, -, c, q5, q6⟩ := c4 k hk
    exact ⟨by omega, q2, c, q5, CA_FG q6⟩
  · obtain ⟨q1, q2, -, -, q5⟩ := c5 k hk
    refine ⟨by omega, q2, ?_⟩
    rcases q5 with q5 | ⟨q5, c, q6, q7⟩
    · exact Or.inl q5
    · exact Or.inr ⟨q5, c, q6, CA_FG q7⟩
theorem WM0_sg {W : Wv} (h : WM0 W) (hc : cov W) : WSg W := ⟨h.1, h.2.2.1, fun k hk => (h.2.2.2.1 k hk).2.2, fun k hk => (h.2.2.2.2.1 k hk).2.2.2.2.imp id (fun z => z.2), hc⟩
/-! nodes as bytes -/
theorem okN_w8 {nf nm : Int} {q : Nd} (hf : nf ≤ 8) (hm : nm ≤ 12) (h : okN nf nm q) : okN nf nm (w8n q) ∧ (w8n q).1 = q.1 ∧ (q.1 = 0 → w8n q = q) ∧ (q.1 = 1 → (w8n q).2.1 = q.2.1) := by
  obtain ⟨h1, h2, h3, h4⟩ := h
  have e1 : w8 q.1 = q.1 := w8_id (x := q.1) (by omega) (by omega)
  have e0 : q.1 = 0 → w8n q = q := fun z => by
    have := h3 z
    unfold w8n
    rw [e1, w8_id (x := q.2.1) (by omega) (by omega), w8_id (x := q.2.2.1) (by omega) (by omega)]
  have e2 : q.1 = 1 → (w8n q).2.1 = q.2.1 := fun z => by
    have := h4 z
    exact w8_id (x := q.2.1) (by omega) (by omega)
  refine ⟨⟨by show 0 ≤ w8 q.1; rw [e1]; exact h1, by show w8 q.1 ≤ 4; rw [e1]; exact h2, fun z => ?_, fun z => ?_⟩, e1, e0, e2⟩
  · have z : q.1 = 0 := by rw [← e1]; exact z
    rw [e0 z]; exact h3 z
  · have z : q.1 = 1 := by rw [← e1]; exact z
    rw [e2 z]; exact h4 z
theorem mrow_map {rows : Nat → List Nd} {qs : Nat → Nd} {g : Nd → Nd} : ∀ k, (mrow rows qs k).map g = mrow (fun i => (rows i).map g) (fun i => g (qs i)) k := by
  intro k
  induction k with
  | zero => rfl
  | succ k ih => simp only [mrow, List.map_append, ih, List.map_cons, List.map_nil]
theorem CA_w8 {F : Nat → Prop} {G : CG} {u : Sg} {nf nm : Int} (hf : nf ≤ 8) (hm : nm ≤ 12) : ∀ d c ns, CA F G u d c ns → (∀ q ∈ ns, okN nf nm q) → CA F G u d c (ns.map w8n) := by
  intro d
  induction d with
  | zero => intro c ns h _; exact h
  | succ d ih =>
    intro c ns h ho
    obtain ⟨h0, h⟩ := h
    refine ⟨h0, ?_⟩
    rcases h with ⟨h1, o, ns', q, h2, h3, h4, h5⟩ | ⟨h1, q, h2, h3, h4⟩ | ⟨h1, h2, h3⟩ | ⟨h1, k, h2, h3, h4⟩ | ⟨h1, h2, l, b, n, el, rows, qs, k1, k2, k3, k4, k5, k6, k7, k8, k9⟩
    · subst h5
      refine Or.inl ⟨h1, o, ns'.map w8n, w8n q, h2, ih o ns' h3 (fun q hq => ho q (List.mem_append.mpr (Or.inl hq))), ?_, by rw [List.map_append]; rfl⟩
      rw [(okN_w8 hf hm (ho q (by simp))).2.1]; exact h4
    · subst h4
      obtain ⟨y1, y2, y3, y4⟩ := okN_w8 hf hm (ho q (by simp))
      exact Or.inr (Or.inl ⟨h1, w8n q, by rw [y2]; exact h2, by rw [y4 h2]; exact h3, rfl⟩)
    · subst h3
      obtain ⟨y1, y2, y3, y4⟩ := okN_w8 hf hm (ho _ (List.mem_cons_self ..))
      exact Or.inr (Or.inr (Or.inl ⟨h1, h2, by rw [List.map_cons, y3 rfl]; rfl⟩))
    · subst h4
      obtain ⟨y1, y2, y3, y4⟩ := okN_w8 hf hm (ho _ (List.mem_cons_self ..))
      exact Or.inr (Or.inr (Or.inr (Or.inl ⟨h1, k, h2, h3, by rw [List.map_cons, y3 rfl]; rfl⟩)))
    · subst k9
      have mq : ∀ i, 1 ≤ i → i ≤ n - 1 → qs i ∈ mrow rows qs (n - 1) := fun i a b => (mrow_mem_iff (n - 1)).mpr (Or.inr ⟨i, a, b, rfl⟩)
      have mr : ∀ i, i < n → ∀ q ∈ rows i, q ∈ mrow rows qs (n - 1) := fun i a q hq => (mrow_mem_iff (n - 1)).mpr (Or.inl ⟨i, by omega, hq⟩)
      refine Or.inr (Or.inr (Or.inr (Or.inr ⟨h1, h2, l, b, n, el, fun i => (rows i).map w8n, fun i => if i ≤ n - 1 then w8n (qs i) else qs i, k1, k2, k3, k4, k5, k6, fun i hi => ⟨(k7 i hi).1, ih _ _ (k7 i hi).2 (fun q hq => ho q (mr i hi q hq))⟩, fun i hi => ?_, ?_⟩)))
      · dsimp only
        by_cases z : i ≤ n - 1
        · rw [if_pos z, (okN_w8 hf hm (ho _ (mq i hi z))).2.1]; exact k8 i hi
        · rw [if_neg z]; exact k8 i hi
      · rw [mrow_map]
        exact mrow_cg (n - 1) (fun i _ => rfl) (fun i hi => by rw [if_pos hi])
/-- the layout behind the reading: what was read is frozen, the wording, its starts and the reader are bare -/
def LAw (L : Ly) (N0 : Nat) (κ : Nat → Nat) : Ly := (L.1, fun q => if q < N0 then L.2 q else if κ q = 1 ∨ (240 ≤ κ q ∧ κ q ≤ 247) then 1 else 0)
theorem IX_fin {G : CG} {L : Ly} {r a w : Nat} {κ : Nat → Nat} {u0 t : Sg} {m0 m : Mu} {W W2 : Wv} (h0 : RC G L u0 m0) (h : IX G L r a (zN u0) κ t m W) (hF : FRo (zN u0) u0 t) (hT : WT m w W2) (h47 : m.1 47 = 300) : RC G (LAw L (zN u0) κ) t m0 ∧ WR G (LAw L (zN u0) κ) t a W2 ∧ WM0 W2 ∧ cov W2 ∧ ((LAw L (zN u0) κ).2 a = 0 ∧ zN u0 ≤ a ∧ a < zN t) ∧ (∃ l b, zR t a 250 = some l ∧ LA t l b 0 ∧ LW G t l b ∧ (LAw L (zN u0) κ).2 l = 0 ∧ l ≠ a ∧ b ≠ a ∧ (0 < zL t b → (LAw L (zN u0) κ).2 b = 0)) ∧ lsm (fun k => W2 22 k - W2 21 k) (nM W2) + lsm (fun k => W2 26 k - W2 25 k) (nC W2) + lsm (fun k => W2 31 k - W2 30 k) (nP W2) = W2 33 0 := by
  obtain ⟨⟨hR, -, -, -⟩, hWB, hCV, ⟨h51, h46, hJ⟩, hSt, hN⟩ := h
  have h300 : m.1 46 ≤ 300 := by have := hR.2.2.2.1.2.1.2; have := h51.2; omega
  obtain ⟨⟨⟨o1, o2, o3⟩, o4, o5, o6, o7⟩, ⟨b1, b2, b3, b4, b5, b6, b7, b8, b9, b10⟩, ⟨e1, f1, f2⟩, ⟨e2, g1, g2⟩, ⟨e3, m1, m2⟩, ⟨e4, q1, q2⟩, ⟨e5, p1, p2⟩, ⟨s1, s2, s3, s4, d, s5, s6, s7, s8, s9⟩, u1, e6, u2⟩ := hWB
  obtain ⟨t1, t2, t3, t4, t5, t6, t7⟩ := hT
  rw [b1] at t1 t2 t3
  have hRt := h0.1
  -- colours
  have c1 : ∀ q, κ q = 1 → (LAw L (zN u0) κ).2 q = 1 := fun q hq => by
    show (if q < zN u0 then L.2 q else if κ q = 1 ∨ (240 ≤ κ q ∧ κ q ≤ 247) then 1 else 0) = 1
    rcases o5 q (by omega) with z | z
    · rw [if_pos (by omega)]; exact hRt.2.2.2.1 q z
    · rw [if_neg (by omega), if_pos (Or.inl hq)]
  have c2 : ∀ q, 240 ≤ κ q → κ q ≤ 247 → (LAw L (zN u0) κ).2 q = 1 := fun q h1 h2 => by
    show (if q < zN u0 then L.2 q else if κ q = 1 ∨ (240 ≤ κ q ∧ κ q ≤ 247) then 1 else 0) = 1
    have := k25 o5 o6 q (by omega)
    rw [if_neg (by omega), if_pos (Or.inr ⟨h1, h2⟩)]
  have cG : ∀ q, q < G0 G → (LAw L (zN u0) κ).2 q = 1 := fun q hq => c1 q (o6 q hq)
  -- values
  have w : ∀ k ∈ KW, ∀ j, j < wid k → W2 k j = W k j := t1
  have eF : nF W2 = nF W := by show (W2 12 0).toNat = _; rw [w 12 (by decide) 0 (by decide)]
  have eM : nM W2 = nM W := by show (W2 19 0).toNat = _; rw [w 19 (by decide) 0 (by decide)]
  have eP : nP W2 = nP W := by show (W2 27 0).toNat = _; rw [w 27 (by decide) 0 (by decide)]
  have eC : nC W2 = (m.1 56).toNat := by show (W2 23 0).toNat = _; rw [t4]
  have w8 : ∀ k ∈ [13, 14, 15, 17, 18], ∀ f, f < nF W → W2 k f = W k f := fun k hk f hf => by
    simp only [List.mem_cons, List.not_mem_nil, or_false] at hk
    rcases hk with rfl | rfl | rfl | rfl | rfl <;> exact w _ (by decide) f (by show f < 8; omega)
  have sgE : ∀ i j : Int, 0 ≤ i → i < j → j ≤ m.1 46 → (sgNw m i j).map w8n = seg W2 i j := fun i j h1 h2 h3 => by
    unfold sgNw seg
    rw [List.map_map]
    refine List.map_congr_left (fun k hk => ?_)
    have := List.mem_range.mp hk
    exact (t7 _ (by omega)).symm
  have i8 : ((nF W : Nat) : Int) ≤ 8 := by omega
  have CAe : ∀ {nm : Int} {c : Nat} {i j : Int}, CB G κ t m W nm c i j → nm ≤ 12 → CA (FW (LAw L (zN u0) κ) t W2) G t 100 c (seg W2 i j) := fun {nm c i j} hc h12 => by
    obtain ⟨⟨h1, h2, h3⟩, h4, h5⟩ := hc
    rw [← sgE i j h1 h2 h3]
    refine CA_w8 i8 h12 _ _ _ (CA_sam (fun q hq => ⟨⟨c1 q hq.1, fun z => ?_⟩, sam_rf⟩) gro_rf _ _ _ h4) h5
    obtain ⟨z1, z2⟩ := hq.2 z
    rw [w8 14 (by decide) _ z1]; exact z2
  have SGe : ∀ {nm : Int} {c : Nat} {i j : Int}, CB G κ t m W nm c i j → nm ≤ 12 → sgO W2 nm i j := fun {nm c i j} hc h12 => by
    obtain ⟨⟨h1, h2, h3⟩, h4, h5⟩ := hc
    have h4' := CA_w8 i8 h12 _ _ _ h4 h5
    rw [sgE i j h1 h2 h3] at h4'
    refine ⟨h1, h2, by rw [t6]; exact h3, CA_isC _ _ _ h4', fun q hq => ?_⟩
    rw [w 12 (by decide) 0 (by decide), b2]
    rw [← sgE i j h1 h2 h3] at hq
    obtain ⟨q0, q1, q2⟩ := List.mem_map.mp hq
    rw [← q2]; exact (okN_w8 i8 h12 (h5 q0 q1)).1
  have LFe : ∀ {j n : Nat} {el : Nat → Nat}, 240 ≤ j → j ≤ 247 → LBw G κ t a j n el → ∃ l, zR t a j = some l ∧ LF (LAw L (zN u0) κ) t l n el := fun {j n el} j1 j2 hl => by
    obtain ⟨l, b, l1, l2, l3, l4, l5, l6, l7⟩ := hl
    refine ⟨l, l1, b, l2, c2 l (by omega) (by omega), ?_, l7⟩
    by_cases z : zL t b = 0
    · exact cG b (l6 z)
    · have := l5 (by omega); exact c2 b (by omega) (by omega)
  obtain ⟨lf1, lf2, lf3⟩ := LFe (by omega) (by omega) f1
  obtain ⟨lg1, lg2, lg3⟩ := LFe (by omega) (by omega) g1
  obtain ⟨lm1, lm2, lm3⟩ := LFe (by omega) (by omega) m1
  obtain ⟨lq1, lq2, lq3⟩ := LFe (by omega) (by omega) q1
  obtain ⟨lp1, lp2, lp3⟩ := LFe (by omega) (by omega) p1
  have w12 : ∀ k, k < nM W → W2 20 k = W 20 k := fun k hk => w 20 (by decide) k (by show k < 12; omega)
  have w24 : ∀ k, k < nP W → W2 28 k = W 28 k ∧ W2 29 k = W 29 k := fun k hk => ⟨w 28 (by decide) k (by show k < 24; omega), w 29 (by decide) k (by show k < 24; omega)⟩
  have w32' : ∀ k, k < 5 → W2 32 k = W 32 k := fun k hk => w 32 (by decide) k (by show k < 5; omega)
  refine ⟨?_, ⟨o2, ⟨lf1, e1, lf2, by rw [eF]; exact lf3, fun f hf => ?_⟩, ⟨lg1, e2, lg2, by rw [eM]; exact lg3, fun k hk => ?_⟩, ⟨lm1, e3, lm2, by rw [eM]; exact lm3, fun k hk => ?_⟩, ⟨lq1, e4, lq2, by rw [eC]; exact lq3, fun k hk => ?_⟩, ⟨lp1, e5, lp2, by rw [eP]; exact lp3, fun k hk => ?_⟩, ⟨by rw [w32' 0 (by omega)]; exact s1, by rw [w32' 1 (by omega)]; exact s2, d, s5, ⟨c2 d (by omega) (by omega), s7, s8⟩, fun k hk => by rw [w32' _ (by omega)]; exact (s9 k hk).1⟩, ?_⟩, ⟨?_, fun f hf => ?_, fun k hk => ?_, fun k hk => ?_, fun k hk => ?_, ?_⟩, fun i hi => ?_, ?_, ?_, ?_⟩
  · refine RC_ext h0 ⟨hF.1, fun q hq => ?_, fun q hq => ?_⟩ (fun q hq => hF.2 q (hRt.2.2.1 q hq)) (fun _ _ => rfl)
    · show (if q < zN u0 then L.2 q else _) = _
      rw [if_pos (hRt.2.2.1 q (by omega))]
    · have hq : (if q < zN u0 then L.2 q else if κ q = 1 ∨ (240 ≤ κ q ∧ κ q ≤ 247) then 1 else 0) ≠ 0 := hq
      by_cases z : q < zN u0
      · have := hF.1.1; omega
      · rw [if_neg z] at hq
        by_cases y : κ q = 1 ∨ (240 ≤ κ q ∧ κ q ≤ 247)
        · exact o4 q (by omega)
        · rw [if_neg y] at hq; exact absurd rfl hq
  · rw [eF] at hf
    obtain ⟨h1, h2, h3, h4, h5, h6, h7, h8, c, k1, k2, k3, k4, k5⟩ := f2 f hf
    refine ⟨c1 _ h1, h2, by rw [w8 13 (by decide) f hf]; exact h3, by rw [w8 14 (by decide) f hf]; exact h4, by rw [w8 15 (by decide) f hf]; exact h5, by rw [w8 17 (by decide) f hf]; exact h6, by rw [w8 18 (by decide) f hf]; exact h7, c, k1, ⟨c1 c k2, k3, k4⟩, fun k hk => ?_⟩
    rw [w8 15 (by decide) f hf] at hk
    rw [w 16 (by decide) (6 * f + k) (by show 6 * f + k < 48; have := h8.2.2.2.1; omega)]
    exact k5 k hk
  · rw [eM] at hk
    obtain ⟨h1, h2, h3⟩ := g2 k hk
    exact ⟨c1 _ h1, h2, by rw [w12 k hk]; exact h3⟩
  · rw [eM] at hk
    rw [(t2 k hk).1, (t2 k hk).2]; exact CAe (m2 k hk) (by omega)
  · rw [eC] at hk
    obtain ⟨h1, h2, h3, h4, h5, c, c3, c4⟩ := q2 k hk
    obtain ⟨y1, y2, y3⟩ := t5 k (by omega)
    rw [y1, y2, y3]
    exact ⟨c1 _ h1, h2, h3, h5, c, c3, CAe c4 (by omega)⟩
  · rw [eP] at hk
    obtain ⟨h1, h2, h3, h4, h5, h6⟩ := p2 k hk
    rw [(w24 k hk).1, (w24 k hk).2, (t3 k hk).1, (t3 k hk).2]
    refine ⟨c1 _ h1, h2, h3, h4, ?_⟩
    rcases h6 with h6 | ⟨-, c, c3, c4⟩
    · exact Or.inl h6
    · exact Or.inr ⟨c4.1.2.1, c, c3, CAe c4 (by omega)⟩
  · rw [u1, eM, eP]
    congr 1
    · exact congrArg List.sum (List.map_congr_left (fun k hk => by have := List.mem_range.mp hk; rw [(t2 k this).1, (t2 k this).2]))
    · exact congrArg List.sum (List.map_congr_left (fun k hk => by have := List.mem_range.mp hk; rw [(t3 k this).1, (t3 k this).2]))
  · rw [w 12 (by decide) 0 (by decide), w 19 (by decide) 0 (by decide), w 27 (by decide) 0 (by decide), t4, t6, b2, b4, b6]
    omega
  · rw [eF] at hf
    obtain ⟨-, -, -, -, -, -, -, h8, -⟩ := f2 f hf
    rw [w8 14 (by decide) f hf, w8 15 (by decide) f hf, w8 17 (by decide) f hf, w8 18 (by decide) f hf]
    exact h8
  · rw [eM] at hk
    rw [(t2 k hk).1, (t2 k hk).2]; exact SGe (m2 k hk) (by omega)
  · rw [eC] at hk
    obtain ⟨h1, h2, h3, h4, h5, c, c3, c4⟩ := q2 k hk
    obtain ⟨y1, y2, y3⟩ := t5 k (by omega)
    rw [y1, y2, y3, w 19 (by decide) 0 (by decide), b4]
    exact ⟨h4.1, h4.2, SGe c4 (by omega)⟩
  · rw [eP] at hk
    obtain ⟨h1, h2, h3, h4, h5, h6⟩ := p2 k hk
    rw [(w24 k hk).1, (w24 k hk).2, (t3 k hk).1, (t3 k hk).2, w 19 (by decide) 0 (by decide), b4]
    refine ⟨h5.1, h5.2.1, h5.2.2.1, h5.2.2.2, ?_⟩
    rcases h6 with h6 | ⟨h7, c, c3, c4⟩
    · exact Or.inl h6.2
    · exact Or.inr ⟨h7, SGe c4 (by omega)⟩
  · rw [w32' 0 (by omega), w32' 1 (by omega), w32' 2 (by omega), w32' 3 (by omega), w32' 4 (by omega), eP]
    refine ⟨s3, s4, (s9 0 (by omega)).2, (s9 1 (by omega)).2, (s9 2 (by omega)).2, fun k hk => ?_⟩
    rw [tmB_cg k (fun i hi => (w24 i (by omega)).1)]; exact b10 k hk
  · rw [t6] at hi
    rw [eM, eC, eP]
    rcases hCV.1 i hi with ⟨k, k1, k2, k3⟩ | ⟨k, k1, k2, k3⟩ | ⟨k, k1, k2, k3⟩
    · exact Or.inl ⟨k, k1, by rw [(t2 k k1).1]; exact k2, by rw [(t2 k k1).2]; exact k3⟩
    · obtain ⟨y1, y2, y3⟩ := t5 k (by omega)
      exact Or.inr (Or.inl ⟨k, k1, by rw [y2]; exact k2, by rw [y3]; exact k3⟩)
    · exact Or.inr (Or.inr ⟨k, k1, by rw [(t3 k k1).1]; exact k2, by rw [(t3 k k1).2]; exact k3⟩)
  · refine ⟨?_, k25 o5 o6 a (by omega), o4 a (by omega)⟩
    show (if a < zN u0 then L.2 a else if κ a = 1 ∨ (240 ≤ κ a ∧ κ a ≤ 247) then 1 else 0) = 0
    have := k25 o5 o6 a (by omega)
    rw [if_neg (by omega), if_neg (by omega)]
  · obtain ⟨l, b, l1, l2, l3, l4, l5, l6, l7⟩ := u2
    refine ⟨l, b, l1, l2, l3, ?_, fun e => ?_, fun e => ?_, fun e => ?_⟩
    · show (if l < zN u0 then L.2 l else if κ l = 1 ∨ (240 ≤ κ l ∧ κ l ≤ 247) then 1 else 0) = 0
      have := k25 o5 o6 l (by omega)
      rw [if_neg (by omega), if_neg (by omega)]
    · rw [e] at l4; omega
    · have := l2.2.2.2.1
      rw [e, o2] at this; exact absurd this (by decide)
    · have y := l5 e
      show (if b < zN u0 then L.2 b else if κ b = 1 ∨ (240 ≤ κ b ∧ κ b ≤ 247) then 1 else 0) = 0
      have := k25 o5 o6 b (by omega)
      rw [if_neg (by omega), if_neg (by omega)]
  · rw [eM, eC, eP, t6, ← hCV.2]
    unfold SMS
    rw [lsm_cg (n := nM W) (fun k hk => by rw [(t2 k hk).1, (t2 k hk).2]), lsm_cg (n := (m.1 56).toNat) (fun k hk => by rw [(t5 k (by omega)).2.1, (t5 k (by omega)).2.2]), lsm_cg (n := nP W) (fun k hk => by rw [(t3 k hk).1, (t3 k hk).2])]

/-! compare -/
/-- the number of the cell of the values v -/
def nuV (W : Wv) (v : Nat → Int) : Nat := hor W (fun f => cel W f (v f)) (nF W)
def anV (W : Wv) (v : Nat → Int) : Bool := ansO W (val0 W (nuV W v))
theorem nuV_lt {W : Wv} (hM : WM W) (v : Nat → Int) : nuV W v < uni W (nF W) 0 := by
  have := hor_lt (W := W) (d := fun f => cel W f (v f)) (fun f hf => cel_lt hM hf (v f))
  rw [ug_0] at this
  exact this
theorem c_num {G : CG} {L : Ly} {u : Sg} {m : Mu} (h : RC G L u m) {W : Wv} {wa : Nat} (hM : WM W) (hA : WA G L u wa W) {v : Nat → Int} (hv : ∀ f, f < nF W → zA u (L.1 140) f = v f ∧ W 17 f ≤ v f ∧ v f ≤ 999999999) : f6_number G (some wa) (some (L.1 113)) u = some ((nuV W v : Nat) : Int) := by
  have hR := h.1
  obtain ⟨f0, f8⟩ := nF_e hM
  obtain ⟨⟨a1, a2⟩, ⟨l1, e9, b1, b2, -⟩, -, -, -, -, -, -, ⟨l6, e6, b6, c6, d6⟩, -⟩ := hA
  obtain ⟨lb, k1, k2, k3, k4⟩ := id c6
  have l140 := rL140 hR
  have key := loop_ind (fun q (i : Nat) => f6_number_l4 G (some wa) (some (L.1 113)) u q ((hor W (fun f => cel W f (v f)) i : Nat) : Int) (i : Int)) (fun i => nF W - i) (fun i => i ≤ nF W) (fun _ x => x = ((nuV W v : Nat) : Int)) (by
    intro q i hi ih
    show ok (f6_number_l4 G (some wa) (some (L.1 113)) u (q + 1) ((hor W (fun f => cel W f (v f)) i : Nat) : Int) (i : Int)) _
    unfold f6_number_l4
    refine ok_eq (gfR_v a2 b1) (ok_eq (ztg_e (lf_tag b2)) (ok_eq (lf_size b2) ?_))
    rw [w32_n (by omega), w32_n (by omega)]
    refine ok_ite (fun hc => ok_some (by rw [show i = nF W by omega]; rfl)) (fun hc => ?_)
    have hif : i < nF W := by omega
    obtain ⟨s1, s2, s3, r, s4, s5, s6⟩ := d6 i hif
    obtain ⟨n1, n2, n3⟩ := nS_e hM hif
    obtain ⟨v1, v2, v3⟩ := hv i hif
    refine ok_eq (gfR_v a2 b6) (ok_eq (ztg_e k1.1) (ok_eq (J_get k1 i rfl hif) ?_))
    rw [k4 i hif]
    refine ok_eq (zcast_1 s2) (ok_eq (gfI_v s2 s3) (ok_eq (gfR_v a2 b6) (ok_eq (ztg_e k1.1) (ok_eq (J_get k1 i rfl hif) ?_))))
    rw [k4 i hif]
    refine ok_eq (zcast_1 s2) (ok_eq (gfR_v (rT113 hR) (rR113_40 hR)) (ok_eq (alI_e i (rT140 hR) rfl (by omega) (by omega)) (ok_eq (ztg_e s2) ?_)))
    rw [v1]
    refine ok_eq (c_cell hM hif (d6 i hif) v2 (by omega)) ?_
    have := ih (i + 1) (by omega) (by omega)
    have e : ((hor W (fun f => cel W f (v f)) i : Nat) : Int) * W 39 i + (cel W i (v i) : Int) = ((hor W (fun f => cel W f (v f)) (i + 1) : Nat) : Int) := by
      rw [n1]
      show _ = ((hor W (fun f => cel W f (v f)) i * nS W i + cel W i (v i) : Nat) : Int)
      rw [Int.natCast_add, Int.natCast_mul]
    rw [e]
    exact this) NN 0 (Nat.zero_le _) (NN_gt (by omega))
  obtain ⟨x, ex, rfl⟩ := key
  unfold f6_number
  have ex : f6_number_l4 G (some wa) (some (L.1 113)) u NN 0 0 = some ((nuV W v : Nat) : Int) := ex
  rw [ex]; rfl
/-- the class's answer at the values at hand -/
theorem c_ansAt {G : CG} {L : Ly} {u : Sg} {W : Wv} {wa : Nat} (hM : WM W) (hA : WA G L u wa W) (v : Nat → Int) : ∃ d, zR u wa 252 = some d ∧ alI u 2 (some d) ((nuV W v : Nat) : Int) = some (b2i (anV W v)) := by
  obtain ⟨⟨a1, a2⟩, -, -, -, -, -, -, -, -, ⟨d, e, x1, x2, x3, x4, x5⟩⟩ := hA
  have hn := nuV_lt hM v
  have h2000 := hM.2.2.2.2.2.2.2.1
  refine ⟨d, x1, ?_⟩
  rw [alI_e (nuV W v) x3.2.1 rfl (by rw [x3.2.2]; exact hn) (by rw [x3.2.2]; omega), (x5 _ hn).1, hM.2.2.2.2.2.2.2.2.1 _ hn]
  rfl
theorem m_ansOf {m : Mu} {w : Nat} {W : Wv} (hw : slc m w = W) (hw12 : w ≤ 13) (hM : WM W) {v : Nat → Int} (hv : ∀ f, f < nF W → m.2 59 f = v f ∧ W 17 f ≤ v f ∧ v f ≤ 999999999) : m5_answerOf w m = some (b2i (anV W v)) := by
  obtain ⟨f0, f8⟩ := nF_e hM
  have hn := nuV_lt hM v
  have h2000 := hM.2.2.2.2.2.2.2.1
  have key := loop_ind (fun q (i : Nat) => m5_answerOf_l4 w m q ((hor W (fun f => cel W f (v f)) i : Nat) : Int) (i : Int)) (fun i => nF W - i) (fun i => i ≤ nF W) (fun _ x => x = ((nuV W v : Nat) : Int)) (by
    intro q i hi ih
    show ok (m5_answerOf_l4 w m (q + 1) ((hor W (fun f => cel W f (v f)) i : Nat) : Int) (i : Int)) _
    unfold m5_answerOf_l4
    refine ok_eq (m_sl (w := w) (k := 12) (j := 0) (by decide) (by show (w : Int) = ((1 * w + 0 : Nat) : Int); omega) (by show 1 * w + 0 < 14; omega) (by omega)) ?_
    rw [hw, f0, w32_n (by omega), w32_n (by omega)]
    refine ok_ite (fun hc => ok_some (by rw [show i = nF W by omega]; rfl)) (fun hc => ?_)
    have hif : i < nF W := by omega
    obtain ⟨e1, e2, e3⟩ := nS_e hM hif
    obtain ⟨v1, v2, v3⟩ := hv i hif
    refine ok_eq (m_sl (w := w) (k := 39) (j := i) (by show i < 8; omega) (by show _ = ((8 * w + i : Nat) : Int); omega) (by show 8 * w + i < 112; omega) (by omega)) (ok_mald i rfl (by omega) (by omega) ?_)
    rw [hw, v1]
    refine ok_eq (m_cell hw hw12 hM hif v2 (by omega)) ?_
    have := ih (i + 1) (by omega) (by omega)
    have e : ((hor W (fun f => cel W f (v f)) i : Nat) : Int) * W 39 i + (cel W i (v i) : Int) = ((hor W (fun f => cel W f (v f)) (i + 1) : Nat) : Int) := by
      rw [e1]
      show _ = ((hor W (fun f => cel W f (v f)) i * nS W i + cel W i (v i) : Nat) : Int)
      rw [Int.natCast_add, Int.natCast_mul]
    rw [e]
    exact this) NN 0 (Nat.zero_le _) (NN_gt (by omega))
  obtain ⟨x, ex, rfl⟩ := key
  unfold m5_answerOf
  have ex : m5_answerOf_l4 w m NN 0 0 = some ((nuV W v : Nat) : Int) := ex
  rw [ex, Option.bind_some, m_sl (w := w) (k := 41) (j := nuV W v) (by show nuV W v < 2000; omega) (by show _ = ((2000 * w + nuV W v : Nat) : Int); omega) (by show 2000 * w + nuV W v < 28000; omega) (by omega), Option.bind_some, hw, hM.2.2.2.2.2.2.2.2.1 _ hn, w32_b2i]
  show (if b2i (anV W v) = 0 ∨ b2i (anV W v) = 1 then some (b2i (anV W v)) else none) = some (b2i (anV W v))
  cases anV W v <;> rfl
/-! the ways of the joint -/
def lfN (cn : Nat → Nat) (F c : Nat) : Nat → Nat
  | 0 => c
  | k + 1 => lfN cn F c k / cn (F - 1 - k)
def jv (cn : Nat → Nat) (ca : Nat → Nat → Int) (F c f : Nat) : Int := ca f (lfN cn F c (F - 1 - f) % cn f)
theorem lfN_le (cn : Nat → Nat) (F c : Nat) : ∀ k, lfN cn F c k ≤ c := by
  intro k
  induction k with
  | zero => exact Nat.le_refl _
  | succ k ih => exact Nat.le_trans (Nat.div_le_self _ _) ih
/-- since u only the values of full (140) have changed -/
def s40 (L : Ly) (u t : Sg) : Prop := (zT t = zT u ∧ zL t = zL u ∧ zI t = zI u ∧ zR t = zR u ∧ zB t = zB u ∧ zN t = zN u) ∧ ∀ a, L.2 a ≠ 140 → zA t a = zA u a
theorem s40_rf {L : Ly} {u : Sg} : s40 L u u := ⟨⟨rfl, rfl, rfl, rfl, rfl, rfl⟩, fun _ _ => rfl⟩
theorem s40_scr {L : Ly} {u t : Sg} (h : s40 L u t) : scr L u t := ⟨h.1.1, h.1.2.1, h.1.2.2.2.2.1, h.1.2.2.2.2.2, fun a g _ _ => by rw [h.1.2.2.2.1], fun a ha => ⟨h.2 a (fun q => ha (by rw [q]; decide)), fun g _ => by rw [h.1.2.2.1]⟩⟩
theorem c_jway {G : CG} {L : Ly} {u : Sg} {m : Mu} (h : RC G L u m) {F : Nat} {cn : Nat → Nat} {ca : Nat → Nat → Int} {hs : Nat → Int} (hF : F ≤ 8) (h21 : zI u (L.1 115) 121 = (F : Int)) (hST : ∀ f, f < F → ST L u f (cn f) (ca f) (hs f) ∧ 1 ≤ cn f ∧ cn f ≤ 1219) {c : Nat} (hc : c ≤ 1000000) : ∃ u', f3_way G (some (L.1 115)) c u = some u' ∧ s40 L u u' ∧ ∀ f, f < F → zA u' (L.1 140) f = jv cn ca F c f := by
  have hR := h.1
  obtain ⟨lb, k1, k2, k3, k4⟩ := hR.2.2.2.2.2.2
  have key := loop_ind (fun q (s : Nat × Sg) => f3_way_l9 G (some (L.1 115)) q ((lfN cn F c s.1 : Nat) : Int) ((F : Int) - 1 - s.1) s.2) (fun s => F - s.1) (fun s => s.1 ≤ F ∧ s40 L u s.2 ∧ ∀ f, f < F → F ≤ f + s.1 → zA s.2 (L.1 140) f = jv cn ca F c f) (fun _ r => s40 L u r ∧ ∀ f, f < F → zA r (L.1 140) f = jv cn ca F c f) (by
    rintro q ⟨k, t⟩ ⟨hk, hs', hI⟩ ih
    dsimp only at hk hs' hI ⊢
    show ok (f3_way_l9 G (some (L.1 115)) (q + 1) ((lfN cn F c k : Nat) : Int) ((F : Int) - 1 - k) t) _
    unfold f3_way_l9
    rw [w32_id (x := (F : Int) - 1 - k) (by omega) (by omega)]
    refine ok_ite (fun hz => ok_some ⟨hs', fun f hf => hI f hf (by omega)⟩) (fun hz => ?_)
    have ht := RC_scr h (s40_scr hs')
    have hRt := ht.1
    obtain ⟨lt, j1, j2, j3, j4⟩ := hRt.2.2.2.2.2.2
    obtain ⟨f, hf⟩ : ∃ f, f = F - 1 - k := ⟨_, rfl⟩
    have ef : (F : Int) - 1 - k = (f : Int) := by omega
    have fF : f < F := by omega
    obtain ⟨⟨p1, p2, p3⟩, p4, p5⟩ := hST f fF
    obtain ⟨⟨t1, t2, t3⟩, ⟨r1, r2, r3, r4⟩, rr⟩ := rSt hRt (f := f) (by omega)
    have hl := lfN_le cn F c k
    have i61 : zI t (L.1 (160 + f)) 161 = (cn f : Int) := by rw [hs'.1.2.2.1]; exact p1
    rw [ef]
    refine ok_eq (gfR_v (rT115 hRt) (rR115_120 hRt)) (ok_eq (ztg_e j1.1) (ok_eq (J_get j1 f rfl (by omega)) ?_))
    rw [j4 f (by omega)]
    refine ok_eq (zcast_1 t1) (ok_eq (gfR_v (rT115 hRt) (rR115_129 hRt)) (ok_eq (gfR_v (rT3 hRt) (rR3_13 hRt)) (ok_eq (gfR_v (rT113 hRt) (rR113_40 hRt)) (ok_eq (gfR_v t1 rr) (ok_eq (gfI_v t1 i61) ?_)))))
    rw [w32_n (by omega)]
    refine ok_neg (by omega) ?_
    have hm : lfN cn F c k % cn f < cn f := Nat.mod_lt _ (by omega)
    rw [rem32_n (by omega) (by omega)]
    refine ok_eq (alI_e (lfN cn F c k % cn f) r1 rfl (by omega) (by omega)) (ok_eq (asI_e f (rT140 hRt) (rG140 hRt) rfl (by rw [rL140 hRt]; omega) (by rw [rL140 hRt]; omega)) (ok_eq (gfI_v t1 i61) ?_))
    rw [w32_n (by omega)]
    refine ok_neg (by omega) ?_
    rw [hs'.2 _ (by rw [r3]; omega), p3 _ hm, div32_n (by omega) (by omega), show (f : Int) + (-1) = (F : Int) - 1 - ((k + 1 : Nat) : Int) by omega]
    refine ih (k + 1, zsA t (L.1 140) f (ca f (lfN cn F c k % cn f))) ⟨by show k + 1 ≤ F; omega, ⟨hs'.1, fun a ha => ?_⟩, fun g hg hgk => ?_⟩ (by show F - (k + 1) < F - k; omega) |> fun z => by
      have e : lfN cn F c (k + 1) = lfN cn F c k / cn f := by simp only [lfN]; rw [← hf]
      dsimp only at z
      rw [e] at z
      exact z
    · rw [zA_ne (fun q => ha (by rw [q]; exact rC140 hRt))]; exact hs'.2 a ha
    · dsimp only at hgk ⊢
      rw [zsA_A]
      by_cases z : g = f
      · rw [if_pos ⟨rfl, z⟩, z]
        unfold jv
        rw [show F - 1 - f = k by omega]
      · rw [if_neg (fun y => z y.2)]; exact hI g hg (by omega)) NN (0, u) ⟨Nat.zero_le _, s40_rf, fun f hf h2 => by dsimp only at h2; omega⟩ (NN_gt (by show F - 0 < 100000; omega))
  obtain ⟨r, e, k⟩ := key
  refine ⟨r, ?_, k⟩
  unfold f3_way
  dsimp only at e
  rw [show (F : Int) - 1 - ((0 : Nat) : Int) = (F : Int) - 1 by omega] at e
  have e : f3_way_l9 G (some (L.1 115)) NN (c : Int) ((F : Int) - 1) u = some r := e
  rw [gfI_v (rT115 hR) h21, Option.bind_some, e]; rfl
theorem m_jway {m : Mu} {F : Nat} {cn : Nat → Nat} {ca : Nat → Nat → Int} (hF : F ≤ 8) (hB : ∀ f, f < F → (m.2 64 f = (cn f : Int) ∧ ∀ j, j < cn f → m.2 63 (2000 * f + j) = ca f j) ∧ 1 ≤ cn f ∧ cn f ≤ 1219) {c : Nat} (hc : c ≤ 1000000) : ∃ m', m5_takeBoth F c m = some m' ∧ mfr [] [59] m m' ∧ ∀ f, f < F → m'.2 59 f = jv cn ca F c f := by
  have key := loop_ind (fun q (s : Nat × Mu) => m5_takeBoth_l7 q ((lfN cn F c s.1 : Nat) : Int) ((F : Int) - 1 - s.1) s.2) (fun s => F - s.1) (fun s => s.1 ≤ F ∧ mfr [] [59] m s.2 ∧ ∀ f, f < F → F ≤ f + s.1 → s.2.2 59 f = jv cn ca F c f) (fun _ r => mfr [] [59] m r ∧ ∀ f, f < F → r.2 59 f = jv cn ca F c f) (by
    rintro q ⟨k, t⟩ ⟨hk, fr, hI⟩ ih
    dsimp only at hk fr hI ⊢
    show ok (m5_takeBoth_l7 (q + 1) ((lfN cn F c k : Nat) : Int) ((F : Int) - 1 - k) t) _
    unfold m5_takeBoth_l7
    rw [w32_id (x := (F : Int) - 1 - k) (by omega) (by omega)]
    refine ok_ite (fun hz => ok_some ⟨fr, fun f hf => hI f hf (by omega)⟩) (fun hz => ?_)
    obtain ⟨f, hf⟩ : ∃ f, f = F - 1 - k := ⟨_, rfl⟩
    have ef : (F : Int) - 1 - k = (f : Int) := by omega
    have fF : f < F := by omega
    obtain ⟨⟨p1, p2⟩, p4, p5⟩ := hB f fF
    have hl := lfN_le cn F c k
    rw [ef]
    refine ok_mald f rfl (by omega) (by omega) ?_
    rw [fr.2 64 (by simp), p1, w32_n (by omega)]
    refine ok_neg (by omega) ?_
    have hm : lfN cn F c k % cn f < cn f := Nat.mod_lt _ (by omega)
    rw [rem32_n (by omega) (by omega)]
    refine ok_mald (2000 * f + lfN cn F c k % cn f) (by omega) (by omega) (by omega) (ok_mast f rfl (by omega) (by omega) (ok_mald f rfl (by omega) (by omega) ?_))
    rw [ma_o (show 64 ≠ 59 by decide), fr.2 64 (by simp), fr.2 63 (by simp), p1, p2 _ hm, w32_n (by omega)]
    refine ok_neg (by omega) ?_
    rw [div32_n (by omega) (by omega), show (f : Int) + (-1) = (F : Int) - 1 - ((k + 1 : Nat) : Int) by omega]
    refine ih (k + 1, ma t 59 f (ca f (lfN cn F c k % cn f))) ⟨by show k + 1 ≤ F; omega, mfr_ma fr (by simp), fun g hg hgk => ?_⟩ (by show F - (k + 1) < F - k; omega) |> fun z => by
      have e : lfN cn F c (k + 1) = lfN cn F c k / cn f := by simp only [lfN]; rw [← hf]
      dsimp only at z
      rw [e] at z
      exact z
    dsimp only at hgk ⊢
    rw [ma_s]
    by_cases z : g = f
    · rw [if_pos z, z]
      unfold jv
      rw [show F - 1 - f = k by omega]
    · rw [if_neg z]; exact hI g hg (by omega)) NN (0, m) ⟨Nat.zero_le _, mfr_rf, fun f hf h2 => by dsimp only at h2; omega⟩ (NN_gt (by show F - 0 < 100000; omega))
  obtain ⟨r, e, k⟩ := key
  refine ⟨r, ?_, k⟩
  unfold m5_takeBoth
  dsimp only at e
  rw [show (F : Int) - 1 - ((0 : Nat) : Int) = (F : Int) - 1 by omega] at e
  have e : m5_takeBoth_l7 NN (c : Int) ((F : Int) - 1) m = some r := e
  rw [e]; rfl

/-! THE READER: the end: values that differ in starts and answers alone -/
/-- but for starts, cells and answers -/
def Wq4 (W W' : Wv) : Prop := ∀ k, k ≠ 38 → k ≠ 39 → k ≠ 40 → k ≠ 41 → W' k = W k
theorem Wq4_rf {W : Wv} : Wq4 W W := fun _ _ _ _ _ => rfl
theorem Wq4_tr {A B C : Wv} (h : Wq4 A B) (k : Wq4 B C) : Wq4 A C := fun j a b c d => (k j a b c d).trans (h j a b c d)
theorem nd_4 {W W' : Wv} (h : Wq4 W W') : nd W' = nd W := by
  funext i; unfold nd; rw [h 34 (by decide) (by decide) (by decide) (by decide), h 35 (by decide) (by decide) (by decide) (by decide), h 36 (by decide) (by decide) (by decide) (by decide), h 37 (by decide) (by decide) (by decide) (by decide)]
theorem seg_4 {W W' : Wv} (h : Wq4 W W') : seg W' = seg W := by
  funext i j; unfold seg; rw [nd_4 h]
theorem nF_4 {W W' : Wv} (h : Wq4 W W') : nF W' = nF W := by show (W' 12 0).toNat = _; rw [h 12 (by decide) (by decide) (by decide) (by decide)]
theorem nM_4 {W W' : Wv} (h : Wq4 W W') : nM W' = nM W := by show (W' 19 0).toNat = _; rw [h 19 (by decide) (by decide) (by decide) (by decide)]
theorem nC_4 {W W' : Wv} (h : Wq4 W W') : nC W' = nC W := by show (W' 23 0).toNat = _; rw [h 23 (by decide) (by decide) (by decide) (by decide)]
theorem nP_4 {W W' : Wv} (h : Wq4 W W') : nP W' = nP W := by show (W' 27 0).toNat = _; rw [h 27 (by decide) (by decide) (by decide) (by decide)]
theorem sgO_4 {W W' : Wv} (h : Wq4 W W') : sgO W' = sgO W := by
  funext a b c; unfold sgO; rw [seg_4 h, h 33 (by decide) (by decide) (by decide) (by decide), h 12 (by decide) (by decide) (by decide) (by decide)]
theorem tmB_4 {W W' : Wv} (h : Wq4 W W') : tmB W' = tmB W := by
  funext k; exact tmB_cg k (fun i _ => by rw [h 28 (by decide) (by decide) (by decide) (by decide)])
theorem thr_4 {W W' : Wv} (h : Wq4 W W') : thr W' = thr W := by
  funext f x; unfold thr; rw [nd_4 h, h 14 (by decide) (by decide) (by decide) (by decide), h 17 (by decide) (by decide) (by decide) (by decide), h 18 (by decide) (by decide) (by decide) (by decide), h 33 (by decide) (by decide) (by decide) (by decide)]
theorem cov_4 {W W' : Wv} (h : Wq4 W W') : cov W' = cov W := by
  unfold cov; rw [nM_4 h, nC_4 h, nP_4 h, h 33 (by decide) (by decide) (by decide) (by decide), h 21 (by decide) (by decide) (by decide) (by decide), h 22 (by decide) (by decide) (by decide) (by decide), h 25 (by decide) (by decide) (by decide) (by decide), h 26 (by decide) (by decide) (by decide) (by decide), h 30 (by decide) (by decide) (by decide) (by decide), h 31 (by decide) (by decide) (by decide) (by decide)]
theorem WM0_4 {W W' : Wv} (h : Wq4 W W') : WM0 W' = WM0 W := by
  unfold WM0
  rw [nF_4 h, nM_4 h, nC_4 h, nP_4 h, sgO_4 h, tmB_4 h, h 12 (by decide) (by decide) (by decide) (by decide), h 19 (by decide) (by decide) (by decide) (by decide), h 23 (by decide) (by decide) (by decide) (by decide), h 27 (by decide) (by decide) (by decide) (by decide), h 33 (by decide) (by decide) (by decide) (by decide), h 14 (by decide) (by decide) (by decide) (by decide), h 15 (by decide) (by decide) (by decide) (by decide), h 17 (by decide) (by decide) (by decide) (by decide), h 18 (by decide) (by decide) (by decide) (by decide), h 21 (by decide) (by decide) (by decide) (by decide), h 22 (by decide) (by decide) (by decide) (by decide), h 24 (by decide) (by decide) (by decide) (by decide), h 25 (by decide) (by decide) (by decide) (by decide), h 26 (by decide) (by decide) (by decide) (by decide), h 28 (by decide) (by decide) (by decide) (by decide), h 29 (by decide) (by decide) (by decide) (by decide), h 30 (by decide) (by decide) (by decide) (by decide), h 31 (by decide) (by decide) (by decide) (by decide), h 32 (by decide) (by decide) (by decide) (by decide)]
theorem WFS_4 {W W' : Wv} (h : Wq4 W W') : WFS W' = WFS W := by
  unfold WFS fkO
  rw [nF_4 h, nd_4 h, h 12 (by decide) (by decide) (by decide) (by decide), h 33 (by decide) (by decide) (by decide) (by decide), h 14 (by decide) (by decide) (by decide) (by decide), h 17 (by decide) (by decide) (by decide) (by decide), h 18 (by decide) (by decide) (by decide) (by decide)]
theorem mnA_4 {W W' : Wv} (h : Wq4 W W') (v : Nat → Int) : ∀ k, mnA W' v k = mnA W v k := by
  intro k
  induction k with
  | zero => rfl
  | succ k ih => funext j; simp only [mnA]; rw [ih, seg_4 h, h 21 (by decide) (by decide) (by decide) (by decide), h 22 (by decide) (by decide) (by decide) (by decide)]
theorem mnO_4 {W W' : Wv} (h : Wq4 W W') (v : Nat → Int) : mnO W' v = mnO W v := by unfold mnO; rw [nM_4 h, mnA_4 h]
theorem clF_4 {W W' : Wv} (h : Wq4 W W') (v : Nat → Int) : ∀ k, clF W' v k = clF W v k := by
  intro k
  induction k with
  | zero => rfl
  | succ k ih => simp only [clF]; rw [ih, mnO_4 h, seg_4 h, h 24 (by decide) (by decide) (by decide) (by decide), h 25 (by decide) (by decide) (by decide) (by decide), h 26 (by decide) (by decide) (by decide) (by decide)]
theorem ansO_4 {W W' : Wv} (h : Wq4 W W') (v : Nat → Int) : ansO W' v = ansO W v := by unfold ansO; rw [nC_4 h, clF_4 h]
theorem decO_4 {W W' : Wv} (h : Wq4 W W') (v : Nat → Int) : decO W' v = decO W v := by unfold decO; rw [nC_4 h, clF_4 h]
/-- answers and cells alone -/
theorem uni_41 {W W' : Wv} (h : W' 39 = W 39) : ∀ k f, uni W' k f = uni W k f := by
  intro k
  induction k with
  | zero => intro f; rfl
  | succ k ih => intro f; simp only [uni]; rw [ih]; show (W' 39 f).toNat * _ = _; rw [h]
theorem val0_41 {W W' : Wv} (h : Wq4 W W') (h38 : W' 38 = W 38) (h39 : W' 39 = W 39) (c : Nat) : val0 W' c = val0 W c := by
  funext f
  unfold val0 dig unit
  rw [nF_4 h, uni_41 h39, h38]
  show W 38 (608 * f + _ % (W' 39 f).toNat) = _
  rw [h39]
/-! the values of the facts alone count -/
theorem sg_cg {W : Wv} {v v' a a' : Nat → Int} {nm i j : Int} (hs : sgO W nm i j) (h : ∀ f, f < nF W → v f = v' f) (ha : ∀ k : Nat, (k : Int) < nm → a k = a' k) : tru v a (seg W i j) = tru v' a' (seg W i j) := by
  refine tru_cg (fun q hq h0 => ?_) (fun q hq h1 => ?_)
  · have o := hs.2.2.2.2 q hq
    have o2 := o.2.2.1 h0
    rw [h q.2.1.toNat (by show _ < (W 12 0).toNat; omega)]
  · have o := hs.2.2.2.2 q hq
    have o2 := o.2.2.2 h1
    exact ha _ (by omega)
theorem mnA_cg {W : Wv} (hM : WM0 W) {v v' : Nat → Int} (h : ∀ f, f < nF W → v f = v' f) : ∀ i, i ≤ nM W → mnA W v i = mnA W v' i := by
  intro i
  induction i with
  | zero => intro _; rfl
  | succ i ih =>
    intro hi
    funext j
    simp only [mnA]
    rw [ih (by omega), sg_cg (a := mnA W v' i) (hM.2.2.1 i (by omega)) h (fun _ _ => rfl)]
theorem mnO_cg {W : Wv} (hM : WM0 W) {v v' : Nat → Int} (h : ∀ f, f < nF W → v f = v' f) : mnO W v = mnO W v' := mnA_cg hM h _ (Nat.le_refl _)
theorem clF_cg {W : Wv} (hM : WM0 W) {v v' : Nat → Int} (h : ∀ f, f < nF W → v f = v' f) : ∀ i, i ≤ nC W → clF W v i = clF W v' i := by
  intro i
  induction i with
  | zero => intro _; rfl
  | succ i ih =>
    intro hi
    simp only [clF]
    rw [ih (by omega), mnO_cg hM h, sg_cg (a := mnO W v') (hM.2.2.2.1 i (by omega)).2.2 h (fun _ _ => rfl)]
theorem ansO_cg {W : Wv} (hM : WM0 W) {v v' : Nat → Int} (h : ∀ f, f < nF W → v f = v' f) : ansO W v = ansO W v' := by unfold ansO; rw [clF_cg hM h _ (Nat.le_refl _)]
theorem decO_cg {W : Wv} (hM : WM0 W) {v v' : Nat → Int} (h : ∀ f, f < nF W → v f = v' f) : decO W v = decO W v' := by unfold decO; rw [clF_cg hM h _ (Nat.le_refl _)]
/-- a wording's value in order, but for starts and answers: what findStarts needs -/
theorem WM0_FS {W : Wv} (h : WM0 W) (hc : cov W) : WFS W := by
  obtain ⟨h1, h2, h3, h4, h5, h6⟩ := h
  refine ⟨⟨h1.1, h1.2.1⟩, ⟨h1.2.2.2.2.2.2.2.2.1, h1.2.2.2.2.2.2.2.2.2⟩, fun f hf => ?_, fun k hk => ?_⟩
  · obtain ⟨a, b, c, d, e1, e2, e3, e4⟩ := h2 f hf
    have hk : W 14 f = 0 ∨ W 14 f = 1 ∨ W 14 f = 2 := by omega
    rcases hk with z | z | z
    · have := e3 z; exact ⟨by omega, by omega, fun _ => by omega⟩
    · have := e2 z; exact ⟨by omega, by omega, fun _ => by omega⟩
    · have := e4 z; exact ⟨by omega, by omega, fun q => absurd z q⟩
  · have fin : ∀ {nm i j : Int}, sgO W nm i j → nm ≤ 12 → i ≤ (k : Int) → (k : Int) < j → okN (W 12 0) 12 (nd W k) := fun {nm i j} s hn a b => okN_up (s.2.2.2.2 (nd W k) ((mem_seg s.1).mpr ⟨k, a, b, rfl⟩)) (Int.le_refl _) hn
    rcases hc k hk with ⟨j, j1, j2, j3⟩ | ⟨j, j1, j2, j3⟩ | ⟨j, j1, j2, j3⟩
    · have : nM W = (W 19 0).toNat := rfl
      exact fin (h3 j j1) (by omega) j2 j3
    · exact fin (h4 j j1).2.2 (by omega) j2 j3
    · rcases (h5 j j1).2.2.2.2 with z | z
      · omega
      · exact fin z.2 (by omega) j2 j3

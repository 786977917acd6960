/-! WAYS AS NUMBERS: digits of a mixed radix, and the next way -/
/-- the ways of the facts from f on -/
def ug (W : Wv) (f : Nat) : Nat := uni W (nF W - f) f
theorem ug_F {W : Wv} : ug W (nF W) = 1 := by unfold ug; rw [Nat.sub_self]; rfl
theorem ug_S {W : Wv} {f : Nat} (h : f < nF W) : ug W f = nS W f * ug W (f + 1) := by
  unfold ug
  rw [show nF W - f = (nF W - (f + 1)) + 1 by omega]
  rfl
theorem ug_0 {W : Wv} : ug W 0 = uni W (nF W) 0 := rfl
theorem unit_ug {W : Wv} {f : Nat} : unit W f = ug W (f + 1) := rfl
theorem dig_ug {W : Wv} {c f : Nat} : dig W c f = c / ug W (f + 1) % nS W f := rfl
theorem ug_pos {W : Wv} (hS : ∀ f, f < nF W → 1 ≤ nS W f) : ∀ k f, f + k = nF W → 1 ≤ ug W f := by
  intro k
  induction k with
  | zero => intro f h; rw [Nat.add_zero] at h; subst h; rw [ug_F]; exact Nat.le_refl _
  | succ k ih =>
    intro f h
    rw [ug_S (by omega)]
    exact Nat.mul_pos (hS f (by omega)) (ih (f + 1) (by omega))
theorem ug_p {W : Wv} (hS : ∀ f, f < nF W → 1 ≤ nS W f) {f : Nat} (h : f ≤ nF W) : 0 < ug W f := ug_pos hS (nF W - f) f (by omega)
theorem ug_dvd {W : Wv} {f g : Nat} (hf : f ≤ g) (hg : g ≤ nF W) : ug W g ∣ ug W f := by
  induction hf with
  | refl => exact Nat.dvd_refl _
  | @step m h ih =>
    refine Nat.dvd_trans ?_ (ih (by omega))
    rw [ug_S (f := m) (by omega)]
    exact Nat.dvd_mul_left _ _
theorem dig_lt {W : Wv} (hS : ∀ f, f < nF W → 1 ≤ nS W f) {c f : Nat} (h : f < nF W) : dig W c f < nS W f := Nat.mod_lt _ (hS f h)
/-- the number split at a fact -/
theorem mod_ug {W : Wv} {c f : Nat} (h : f < nF W) : c % ug W f = dig W c f * ug W (f + 1) + c % ug W (f + 1) := by
  rw [ug_S h, Nat.mul_comm (nS W f), Nat.mod_mul, dig_ug, Nat.mul_comm (ug W (f + 1))]
  omega
theorem div_ug {W : Wv} {c f : Nat} (h : f < nF W) : c / ug W (f + 1) = c / ug W f * nS W f + dig W c f := by
  rw [ug_S h, dig_ug, Nat.mul_comm (nS W f), ← Nat.div_div_eq_div_mul, Nat.mul_comm]
  exact (Nat.div_add_mod _ _).symm
theorem div_ug2 {W : Wv} {c f : Nat} (h : f < nF W) : c / ug W (f + 1) / nS W f = c / ug W f := by
  rw [ug_S h, Nat.mul_comm (nS W f), ← Nat.div_div_eq_div_mul]
theorem dig_mod {W : Wv} (hS : ∀ f, f < nF W → 1 ≤ nS W f) {c f : Nat} (h : f < nF W) : dig W c f = c % ug W f / ug W (f + 1) := by
  have hp := ug_p hS (f := f + 1) (by omega)
  rw [mod_ug h, Nat.add_comm, Nat.add_mul_div_right _ _ hp, Nat.div_eq_of_lt (Nat.mod_lt _ hp)]
  omega
/-- numbers with the same digits are the same -/
theorem dig_ext {W : Wv} {a b : Nat} (ha : a < ug W 0) (hb : b < ug W 0) (h : ∀ f, f < nF W → dig W a f = dig W b f) : a = b := by
  have key : ∀ f, f ≤ nF W → a / ug W f = b / ug W f := by
    intro f
    induction f with
    | zero => intro _; rw [Nat.div_eq_of_lt ha, Nat.div_eq_of_lt hb]
    | succ f ih => intro hf; rw [div_ug (by omega), div_ug (by omega), ih (by omega), h f (by omega)]
  have := key (nF W) (Nat.le_refl _)
  rw [ug_F, Nat.div_one, Nat.div_one] at this
  exact this
/-- the number of given digits -/
def hor (W : Wv) (d : Nat → Nat) : Nat → Nat
  | 0 => 0
  | f + 1 => hor W d f * nS W f + d f
theorem hor_div {W : Wv} {d : Nat → Nat} (hd : ∀ f, f < nF W → d f < nS W f) : ∀ k f, f + k = nF W → hor W d (nF W) / ug W f = hor W d f := by
  intro k
  induction k with
  | zero => intro f h; rw [Nat.add_zero] at h; subst h; rw [ug_F, Nat.div_one]
  | succ k ih =>
    intro f h
    rw [← div_ug2 (by omega), ih (f + 1) (by omega)]
    have hp : 0 < nS W f := Nat.lt_of_le_of_lt (Nat.zero_le _) (hd f (by omega))
    show (hor W d f * nS W f + d f) / nS W f = _
    rw [Nat.add_comm, Nat.add_mul_div_right _ _ hp, Nat.div_eq_of_lt (hd f (by omega))]
    omega
theorem hor_dig {W : Wv} {d : Nat → Nat} (hd : ∀ f, f < nF W → d f < nS W f) {f : Nat} (h : f < nF W) : dig W (hor W d (nF W)) f = d f := by
  rw [dig_ug, hor_div hd (nF W - (f + 1)) (f + 1) (by omega)]
  show (hor W d f * nS W f + d f) % nS W f = _
  rw [Nat.mul_comm, Nat.mul_add_mod]
  exact Nat.mod_eq_of_lt (hd f h)
theorem hor_lt {W : Wv} {d : Nat → Nat} (hd : ∀ f, f < nF W → d f < nS W f) : hor W d (nF W) < ug W 0 := by
  have hS : ∀ f, f < nF W → 1 ≤ nS W f := fun f hf => Nat.lt_of_le_of_lt (Nat.zero_le _) (hd f hf)
  have := hor_div hd (nF W) 0 (by omega)
  rw [show hor W d 0 = 0 from rfl] at this
  exact (Nat.div_eq_zero_iff_lt (ug_p hS (Nat.zero_le _))).mp this
/-- Horner's rule gives the number back -/
theorem hor_back {W : Wv} {n : Nat} (hn : n < ug W 0) : ∀ f, f ≤ nF W → hor W (dig W n) f = n / ug W f := by
  intro f
  induction f with
  | zero => intro _; rw [Nat.div_eq_of_lt hn]; rfl
  | succ f ih => intro hf; rw [div_ug (by omega), ← ih (by omega)]; rfl
theorem hor_all {W : Wv} {n : Nat} (hn : n < ug W 0) : hor W (dig W n) (nF W) = n := by rw [hor_back hn _ (Nat.le_refl _), ug_F, Nat.div_one]
/-- a way by known digits: dg f ≥ 0 fixes the digit of f -/
def inM (W : Wv) (dg : Nat → Int) (n : Nat) : Prop := n < ug W 0 ∧ ∀ f, f < nF W → 0 ≤ dg f → (dig W n f : Int) = dg f
/-- the first way -/
def fst0 (W : Wv) (dg : Nat → Int) : Nat := hor W (fun f => (dg f).toNat) (nF W)
theorem fst_in {W : Wv} {dg : Nat → Int} (hS : ∀ f, f < nF W → 1 ≤ nS W f) (hd : ∀ f, f < nF W → dg f < nS W f) : inM W dg (fst0 W dg) ∧ ∀ f, f < nF W → dig W (fst0 W dg) f = (dg f).toNat := by
  have h : ∀ f, f < nF W → (dg f).toNat < nS W f := fun f hf => by have := hd f hf; have := hS f hf; omega
  refine ⟨⟨hor_lt h, fun f hf h0 => ?_⟩, fun f hf => hor_dig h hf⟩
  unfold fst0
  rw [hor_dig h hf]
  omega
/-- the low part of the first way is least -/
theorem fst_min {W : Wv} {dg : Nat → Int} (hS : ∀ f, f < nF W → 1 ≤ nS W f) (hd : ∀ f, f < nF W → dg f < nS W f) {n : Nat} (hn : inM W dg n) : ∀ k f, f + k = nF W → fst0 W dg % ug W f ≤ n % ug W f := by
  intro k
  induction k with
  | zero => intro f h; rw [Nat.add_zero] at h; subst h; rw [ug_F, Nat.mod_one]; exact Nat.zero_le _
  | succ k ih =>
    intro f h
    rw [mod_ug (f := f) (c := fst0 W dg) (by omega), mod_ug (f := f) (c := n) (by omega)]
    have h1 := ih (f + 1) (by omega)
    have h2 : dig W (fst0 W dg) f ≤ dig W n f := by
      rw [(fst_in hS hd).2 f (by omega)]
      by_cases h0 : 0 ≤ dg f
      · have := hn.2 f (by omega) h0; omega
      · omega
    have h3 := Nat.mul_le_mul_right (ug W (f + 1)) h2
    omega
/-- behind the facts that stand at their last digit, the low part is greatest -/
theorem low_max {W : Wv} {dg : Nat → Int} (hS : ∀ f, f < nF W → 1 ≤ nS W f) {n : Nat} (hn : inM W dg n) {f : Nat} (hf : f < nF W) (hm : 0 ≤ dg f ∨ dig W n f + 1 = nS W f) (h : ∀ n', inM W dg n' → n' % ug W (f + 1) ≤ n % ug W (f + 1)) : ∀ n', inM W dg n' → n' % ug W f ≤ n % ug W f := by
  intro n' hn'
  rw [mod_ug hf, mod_ug hf]
  have h1 := h n' hn'
  have h2 : dig W n' f ≤ dig W n f := by
    rcases hm with h0 | h0
    · have := hn.2 f hf h0; have := hn'.2 f hf h0; omega
    · have := dig_lt hS (c := n') hf; omega
  have h3 := Nat.mul_le_mul_right (ug W (f + 1)) h2
  omega
/-- the next way: one more at the fact f, the facts behind it as at first -/
def nxt (W : Wv) (dg : Nat → Int) (n f : Nat) : Nat := (n / ug W (f + 1) + 1) * ug W (f + 1) + fst0 W dg % ug W (f + 1)
theorem nxt_ok {W : Wv} {dg : Nat → Int} (hS : ∀ f, f < nF W → 1 ≤ nS W f) (hd : ∀ f, f < nF W → dg f < nS W f) {n : Nat} (hn : inM W dg n) {f : Nat} (hf : f < nF W) (h0 : dg f < 0) (hlt : dig W n f + 1 < nS W f) (h : ∀ n', inM W dg n' → n' % ug W (f + 1) ≤ n % ug W (f + 1)) :
    inM W dg (nxt W dg n f) ∧ n < nxt W dg n f ∧ (∀ n', inM W dg n' → n < n' → nxt W dg n f ≤ n') ∧ ∀ g, g < nF W → dig W (nxt W dg n f) g = if g < f then dig W n g else if g = f then dig W n f + 1 else (dg g).toNat := by
  have hp := ug_p hS (f := f + 1) (by omega)
  have hr : fst0 W dg % ug W (f + 1) < ug W (f + 1) := Nat.mod_lt _ hp
  have hq : nxt W dg n f / ug W (f + 1) = n / ug W (f + 1) + 1 := by
    unfold nxt
    rw [Nat.add_comm, Nat.add_mul_div_right _ _ hp, Nat.div_eq_of_lt hr]
    omega
  have hq2 : nxt W dg n f / ug W f = n / ug W f := by
    rw [← div_ug2 hf, hq, ← div_ug2 hf]
    have e : n / ug W (f + 1) % nS W f + 1 < nS W f := hlt
    have hs := hS f hf
    generalize n / ug W (f + 1) = q at *
    have := Nat.div_add_mod q (nS W f)
    have e2 : q + 1 = (q % nS W f + 1) + q / nS W f * nS W f := by rw [Nat.mul_comm (q / nS W f)]; omega
    rw [e2, Nat.add_mul_div_right _ _ (by omega), Nat.div_eq_of_lt e]
    omega
  have hdig : ∀ g, g < nF W → dig W (nxt W dg n f) g = if g < f then dig W n g else if g = f then dig W n f + 1 else (dg g).toNat := by
    intro g hg
    by_cases h1 : g < f
    · rw [if_pos h1]
      obtain ⟨K, hK⟩ := ug_dvd (W := W) (f := g + 1) (g := f) (by omega) (by omega)
      rw [dig_ug, dig_ug, hK, ← Nat.div_div_eq_div_mul, ← Nat.div_div_eq_div_mul, hq2]
    · rw [if_neg h1]
      by_cases h2 : g = f
      · subst h2
        rw [if_pos rfl, dig_ug, hq]
        have e : n / ug W (g + 1) % nS W g + 1 < nS W g := hlt
        rw [Nat.add_mod, Nat.mod_eq_of_lt (a := 1) (by omega), Nat.mod_eq_of_lt e]
        rfl
      · rw [if_neg h2, ← (fst_in hS hd).2 g hg, dig_mod hS hg, dig_mod hS hg]
        have hdv := ug_dvd (W := W) (f := f + 1) (g := g) (by omega) (by omega)
        congr 1
        unfold nxt
        obtain ⟨K, hK⟩ := hdv
        rw [← Nat.mod_mod_of_dvd (fst0 W dg) (⟨K, hK⟩ : ug W g ∣ ug W (f + 1))]
        conv => lhs; rw [Nat.add_mod]
        have : (n / ug W (f + 1) + 1) * ug W (f + 1) % ug W g = 0 := Nat.mod_eq_zero_of_dvd (Nat.dvd_trans ⟨K, hK⟩ (Nat.dvd_mul_left _ _))
        rw [this, Nat.zero_add, Nat.mod_mod]
  have hgt : n < nxt W dg n f := by
    have := Nat.div_add_mod n (ug W (f + 1))
    have hm := Nat.mod_lt n hp
    have e : (n / ug W (f + 1) + 1) * ug W (f + 1) = ug W (f + 1) * (n / ug W (f + 1)) + ug W (f + 1) := by rw [Nat.add_mul, Nat.one_mul, Nat.mul_comm]
    unfold nxt
    rw [e]
    omega
  have hlt0 : nxt W dg n f < ug W 0 := by
    obtain ⟨K, hK⟩ := ug_dvd (W := W) (f := 0) (g := f) (by omega) (by omega)
    have hpf := ug_p hS (f := f) (by omega)
    have h1 : n / ug W f < K := by
      rw [Nat.div_lt_iff_lt_mul hpf, Nat.mul_comm, ← hK]; exact hn.1
    rw [← hq2, Nat.div_lt_iff_lt_mul hpf, Nat.mul_comm, ← hK] at h1
    exact h1
  refine ⟨⟨hlt0, fun g hg hg0 => ?_⟩, hgt, fun n' hn' hlt' => ?_, hdig⟩
  · rw [hdig g hg]
    by_cases h1 : g < f
    · rw [if_pos h1]; exact hn.2 g hg hg0
    · rw [if_neg h1, if_neg (fun q => by rw [q] at hg0; omega)]; omega
  · have h1 := h n' hn'
    have h2 := fst_min hS hd hn' (nF W - (f + 1)) (f + 1) (by omega)
    have h3 := Nat.div_add_mod n (ug W (f + 1))
    have h4 := Nat.div_add_mod n' (ug W (f + 1))
    have h5 : n / ug W (f + 1) + 1 ≤ n' / ug W (f + 1) := by
      apply Classical.byContradiction
      intro hc
      have : n' / ug W (f + 1) ≤ n / ug W (f + 1) := by omega
      have := Nat.mul_le_mul_left (ug W (f + 1)) this
      omega
    have h6 := Nat.mul_le_mul_left (ug W (f + 1)) h5
    unfold nxt
    rw [Nat.mul_comm]
    omega

/-! COMPARABLE WORDINGS on both sides -/
def encR (b : Nat) : List Nat → Nat
  | [] => 0
  | c :: t => encR b t * b + c
theorem enc_R (b : Nat) (cs : List Nat) : enc b cs = encR b cs.reverse := by
  unfold enc
  rw [← List.foldr_reverse]
  induction cs.reverse with
  | nil => rfl
  | cons c t ih => simp only [List.foldr_cons, encR]; rw [ih]
theorem encR_inj {b : Nat} : ∀ l l' : List Nat, (∀ c ∈ l, 1 ≤ c ∧ c < b) → (∀ c ∈ l', 1 ≤ c ∧ c < b) → encR b l = encR b l' → l = l' := by
  intro l
  induction l with
  | nil =>
    intro l' _ h2 h
    cases l' with
    | nil => rfl
    | cons c t => have := (h2 c (by simp)).1; simp only [encR] at h; omega
  | cons c t ih =>
    intro l' h1 h2 h
    cases l' with
    | nil => have := (h1 c (by simp)).1; simp only [encR] at h; omega
    | cons c' t' =>
      have q1 := h1 c (by simp)
      have q2 := h2 c' (by simp)
      simp only [encR] at h
      have e1 : c = c' := by
        have := congrArg (· % b) h
        simp only [Nat.mul_add_mod_self_right, Nat.mod_eq_of_lt q1.2, Nat.mod_eq_of_lt q2.2] at this
        exact this
      subst e1
      have e2 : encR b t = encR b t' := by
        have h3 : encR b t * b = encR b t' * b := by omega
        exact Nat.eq_of_mul_eq_mul_right (by omega) h3
      rw [ih t' (fun x hx => h1 x (by simp [hx])) (fun x hx => h2 x (by simp [hx])) e2]
theorem encR_lt {b : Nat} (hb : 1 ≤ b) : ∀ l : List Nat, (∀ c ∈ l, c < b) → encR b l < b ^ l.length := by
  intro l
  induction l with
  | nil => intro _; simp [encR]
  | cons c t ih =>
    intro h
    have h1 := ih (fun x hx => h x (by simp [hx]))
    have h2 := h c (by simp)
    simp only [encR, List.length_cons, Nat.pow_succ]
    have : encR b t * b + b ≤ b ^ t.length * b := by
      have := Nat.mul_le_mul_right b (show encR b t + 1 ≤ b ^ t.length from h1)
      rw [Nat.add_mul, Nat.one_mul] at this
      exact this
    omega
theorem chr_bd {c : Nat} (h : chr c) : 1 ≤ c ∧ c < 128 := by unfold chr at h; omega
theorem enc_inj {b : Nat} (hb : 128 ≤ b) {l l' : List Nat} (h1 : ∀ c ∈ l, chr c) (h2 : ∀ c ∈ l', chr c) (h : enc b l = enc b l') : l = l' := by
  rw [enc_R, enc_R] at h
  have := encR_inj _ _ (fun c hc => by have := chr_bd (h1 c (by simpa using hc)); omega) (fun c hc => by have := chr_bd (h2 c (by simpa using hc)); omega) h
  simpa using this
theorem enc_lt {l : List Nat} (h : ∀ c ∈ l, chr c) (hl : l.length ≤ 8) : enc 256 l < 9223372036854775808 ∧ enc 128 l < 72057594037927936 := by
  constructor
  · rw [enc_R]
    cases hl' : l.reverse with
    | nil => simp [encR]
    | cons c t =>
      -- the first letter is less than 128
      have hh : ∀ l : List Nat, (∀ c ∈ l, c < 128) → l.length ≤ 8 → encR 256 l ≤ 9223372036854775807 := by
        have step : ∀ n (l : List Nat), l.length = n → (∀ c ∈ l, c < 128) → encR 256 l * 2 < 256 ^ n ∨ n = 0 := by
          intro n
          induction n with
          | zero => intro l _ _; exact Or.inr rfl
          | succ n ih =>
            intro l hl h
            cases l with
            | nil => simp at hl
            | cons c t =>
              simp only [List.length_cons] at hl
              have hc := h c (by simp)
              left
              simp only [encR]
              rcases ih t (by omega) (fun x hx => h x (by simp [hx])) with h1 | h1
              · rw [Nat.pow_succ]; omega
              · subst h1
                have : t = [] := by cases t with
                  | nil => rfl
                  | cons a b => simp at hl
                subst this
                simp only [encR]; omega
        intro l h hl
        rcases step l.length l rfl h with h1 | h1
        · have : 256 ^ l.length ≤ 256 ^ 8 := Nat.pow_le_pow_right (by omega) hl
          omega
        · have : l = [] := List.eq_nil_of_length_eq_zero h1
          subst this; simp [encR]
      have := hh (c :: t) (fun x hx => (chr_bd (h x (by rw [← hl'] at hx; simpa using hx))).2) (by rw [← hl']; simpa using hl)
      omega
  · rw [enc_R]
    have h1 := encR_lt (b := 128) (by omega) l.reverse (fun c hc => (chr_bd (h c (by simpa using hc))).2)
    have h2 : 128 ^ l.reverse.length ≤ 128 ^ 8 := Nat.pow_le_pow_right (by omega) (by simpa using hl)
    omega
theorem NM_iff {x y x' y' : Int} (h : NM x y) (h' : NM x' y') : (w64 x = w64 x' ↔ y = y') ∧ w64 y = y ∧ w64 y' = y' := by
  obtain ⟨l, a1, a2, a3, rfl, rfl⟩ := h
  obtain ⟨l', b1, b2, b3, rfl, rfl⟩ := h'
  have c1 := enc_lt a1 a3
  have c2 := enc_lt b1 b3
  rw [w64_n c1.1, w64_n c2.1, w64_n (by omega), w64_n (by omega)]
  refine ⟨⟨fun hh => ?_, fun hh => ?_⟩, rfl, rfl⟩
  · have := enc_inj (b := 256) (by omega) a1 b1 (by omega)
    rw [this]
  · have := enc_inj (b := 128) (by omega) a1 b1 (by omega)
    rw [this]
def likeP (W V : Wv) (f : Nat) : Prop := W 13 f = V 13 f ∧ W 14 f = V 14 f ∧ W 17 f = V 17 f ∧ W 18 f = V 18 f ∧ ∀ k : Nat, (k : Int) < W 15 f → W 16 (6 * f + k) = V 16 (6 * f + k)
def cmpP (W V : Wv) : Prop := nF W = nF V ∧ ∀ f, f < nF W → likeP W V f
noncomputable def cmpB (W V : Wv) : Bool := @decide (cmpP W V) (Classical.propDecidable _)
theorem cmpB_i {W V : Wv} {b : Bool} (h : b = true ↔ cmpP W V) : b = cmpB W V := by
  by_cases hc : cmpP W V
  · rw [show cmpB W V = true from @decide_eq_true _ (Classical.propDecidable _) hc]; exact h.mpr hc
  · rw [show cmpB W V = false from @decide_eq_false _ (Classical.propDecidable _) hc]
    cases b
    · rfl
    · exact absurd (h.mp rfl) hc
theorem f15_e {W V : Wv} (hM : WM W) (hV : WM V) {f : Nat} (hf : f < nF W) (hf2 : f < nF V) (h14 : W 14 f = V 14 f) (h17 : W 17 f = V 17 f) (h18 : W 18 f = V 18 f) : W 15 f = V 15 f := by
  obtain ⟨b1, b2, b3, b4, b5, b6, b7, b8⟩ := hM.2.1 f hf
  obtain ⟨c1, c2, c3, c4, c5, c6, c7, c8⟩ := hV.2.1 f hf2
  by_cases h1 : W 14 f = 1
  · have := b6 h1; have := c6 (by omega); omega
  · have := b5 h1; have := c5 (by omega); omega
theorem lo_w {W : Wv} (hM : WM W) {f : Nat} (hf : f < nF W) : w32 (W 14 f) = W 14 f ∧ w32 (W 15 f) = W 15 f ∧ w32 (W 17 f) = W 17 f ∧ w32 (W 18 f) = W 18 f := by
  obtain ⟨b1, b2, b3, b4, b5, b6, b7, b8⟩ := hM.2.1 f hf
  have := lo_bd hM hf
  exact ⟨w32_id (by omega) (by omega), w32_id (by omega) (by omega), w32_id (by omega) (by omega), w32_id (by omega) (by omega)⟩
/-- facts alike, by the class -/
theorem c_like {G : CG} {L : Ly} {u : Sg} {W V : Wv} {a b f : Nat} (hM : WM W) (hV : WM V) (hf : f < nF W) (hf2 : f < nF V) (hA : FA L u W a f) (hB : FA L u V b f) : ∃ r : Bool, f9_isLike G (some a) (some b) u = some (b2i r) ∧ (r = true ↔ likeP W V f) := by
  obtain ⟨a1, a2, a3, a4, a5, a6, a7, c, a8, a9, a10⟩ := hA
  obtain ⟨b1, b2, b3, b4, b5, b6, b7, d, b8, b9, b10⟩ := hB
  obtain ⟨n1, n2, n3⟩ := NM_iff a3 b3
  obtain ⟨x14, x15, x17, x18⟩ := lo_w hM hf
  obtain ⟨y14, y15, y17, y18⟩ := lo_w hV hf2
  obtain ⟨q1, q2, q3, q4, -⟩ := hM.2.1 f hf
  have no : ¬ likeP W V f → ∃ r : Bool, (some (0 : Int)) = some (b2i r) ∧ (r = true ↔ likeP W V f) := fun hn => ⟨false, rfl, by simp [hn]⟩
  unfold f9_isLike
  rw [gfI_e a2, Option.bind_some, gfI_e b2, Option.bind_some]
  by_cases h13 : ¬ W 13 f = V 13 f
  · rw [if_neg (fun z => h13 (n1.mp z))]; exact no (fun z => h13 z.1)
  replace h13 := Classical.not_not.mp h13
  rw [if_pos (n1.mpr h13), gfI_v a2 a4, Option.bind_some, gfI_v b2 b4, Option.bind_some, x14, y14]
  by_cases h14 : ¬ W 14 f = V 14 f
  · rw [if_neg h14]; exact no (fun z => h14 z.2.1)
  replace h14 := Classical.not_not.mp h14
  rw [if_pos h14, gfI_v a2 a5, Option.bind_some, gfI_v b2 b5, Option.bind_some, x15, y15]
  by_cases h17 : ¬ W 17 f = V 17 f
  · split
    · rw [gfI_v a2 a6, Option.bind_some, gfI_v b2 b6, Option.bind_some, x17, y17, if_neg h17]; exact no (fun z => h17 z.2.2.1)
    · exact no (fun z => h17 z.2.2.1)
  replace h17 := Classical.not_not.mp h17
  by_cases h18 : ¬ W 18 f = V 18 f
  · split
    · rw [gfI_v a2 a6, Option.bind_some, gfI_v b2 b6, Option.bind_some, x17, y17, if_pos h17, gfI_v a2 a7, Option.bind_some, gfI_v b2 b7, Option.bind_some, x18, y18, if_neg h18]; exact no (fun z => h18 z.2.2.2.1)
    · exact no (fun z => h18 z.2.2.2.1)
  replace h18 := Classical.not_not.mp h18
  have h15 := f15_e hM hV hf hf2 h14 h17 h18
  rw [if_pos h15, gfI_v a2 a6, Option.bind_some, gfI_v b2 b6, Option.bind_some, x17, y17, if_pos h17, gfI_v a2 a7, Option.bind_some, gfI_v b2 b7, Option.bind_some, x18, y18, if_pos h18]
  have key := loop_ind (fun q (k : Nat) => f9_isLike_l60 G (some a) (some b) u q (k : Int)) (fun k => 6 - k) (fun k => (k : Int) ≤ W 15 f ∧ ∀ j : Nat, j < k → W 16 (6 * f + j) = V 16 (6 * f + j)) (fun _ r => (r = .inl () ∧ ¬ likeP W V f) ∨ (r = .inr () ∧ likeP W V f)) (by
    rintro q k ⟨g1, g2⟩ ih
    show ok (f9_isLike_l60 G (some a) (some b) u (q + 1) (k : Int)) _
    unfold f9_isLike_l60
    refine ok_eq (gfI_v a2 a5) ?_
    rw [x15, w32_n (by omega)]
    refine ok_ite (fun hc => ok_some (Or.inr ⟨rfl, h13, h14, h17, h18, fun j hj => g2 j (by omega)⟩)) (fun hc => ?_)
    refine ok_eq (gfR_v a2 a8) (ok_eq (alI_e k a9.2.1 rfl (by rw [a9.2.2]; omega) (by rw [a9.2.2]; omega)) (ok_eq (gfR_v b2 b8) (ok_eq (alI_e k b9.2.1 rfl (by rw [b9.2.2]; omega) (by rw [b9.2.2]; omega)) ?_)))
    obtain ⟨m1, -, -⟩ := NM_iff (a10 k (by omega)) (b10 k (by omega))
    refine ok_ite (fun he => ih (k + 1) ⟨by omega, fun j hj => ?_⟩ (by omega)) (fun he => ok_some (Or.inl ⟨rfl, fun z => he (m1.mpr (z.2.2.2.2 k (by omega)))⟩))
    by_cases hjk : j = k
    · rw [hjk]; exact m1.mp he
    · exact g2 j (by omega)) NN 0 ⟨by omega, fun j hj => absurd hj (Nat.not_lt_zero _)⟩ (NN_gt (by omega))
  obtain ⟨r, e, hr⟩ := key
  have e' : f9_isLike_l60 G (some a) (some b) u NN 0 = some r := e
  rw [e', Option.bind_some]
  rcases hr with ⟨rfl, hr⟩ | ⟨rfl, hr⟩
  · exact no hr
  · exact ⟨true, rfl, by simp [hr]⟩

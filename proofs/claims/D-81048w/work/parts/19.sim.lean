/-! TWO PROGRAMS SIDE BY SIDE -/
def sim {α β : Type} (x : Option α) (y : Option β) (R : α → β → Prop) : Prop := ∃ a b, x = some a ∧ y = some b ∧ R a b
theorem sim_some {α β : Type} {a : α} {b : β} {R : α → β → Prop} (h : R a b) : sim (some a) (some b) R := ⟨a, b, rfl, rfl, h⟩
theorem sim_mono {α β : Type} {x : Option α} {y : Option β} {R Q : α → β → Prop} (h : sim x y R) (k : ∀ a b, R a b → Q a b) : sim x y Q := by
  obtain ⟨a, b, e1, e2, r⟩ := h; exact ⟨a, b, e1, e2, k a b r⟩
theorem sim_L {α β γ : Type} {x : Option γ} {a : γ} {f : γ → Option α} {y : Option β} {R : α → β → Prop} (h : x = some a) (k : sim (f a) y R) : sim (x.bind f) y R := by rw [h]; exact k
theorem sim_R {α β γ : Type} {x : Option α} {a : γ} {g : γ → Option β} {y : Option γ} {R : α → β → Prop} (h : y = some a) (k : sim x (g a) R) : sim x (y.bind g) R := by rw [h]; exact k
theorem sim_S {α β γ : Type} {x : Option α} {a : γ} {g : γ → Option β} {R : α → β → Prop} (k : sim x (g a) R) : sim x ((some a).bind g) R := k
theorem sim_okL {α β γ : Type} {x : Option γ} {f : γ → Option α} {y : Option β} {R : α → β → Prop} {P : γ → Prop} (h : ok x P) (k : ∀ a, P a → sim (f a) y R) : sim (x.bind f) y R := by
  obtain ⟨a, e, p⟩ := h; rw [e]; exact k a p
theorem sim_okR {α β γ : Type} {x : Option α} {g : γ → Option β} {y : Option γ} {R : α → β → Prop} {P : γ → Prop} (h : ok y P) (k : ∀ a, P a → sim x (g a) R) : sim x (y.bind g) R := by
  obtain ⟨a, e, p⟩ := h; rw [e]; exact k a p
theorem sim_bind {α β γ δ : Type} {x : Option γ} {y : Option δ} {f : γ → Option α} {g : δ → Option β} {R : α → β → Prop} {Q : γ → δ → Prop} (h : sim x y Q) (k : ∀ a b, Q a b → sim (f a) (g b) R) : sim (x.bind f) (y.bind g) R := by
  obtain ⟨a, b, e1, e2, q⟩ := h; rw [e1, e2]; exact k a b q
theorem sim_ite {α β : Type} {c c' : Prop} {d : Decidable c} {d' : Decidable c'} {x1 x2 : Option α} {y1 y2 : Option β} {R : α → β → Prop} (h : c ↔ c') (h1 : c → sim x1 y1 R) (h2 : ¬ c → sim x2 y2 R) : sim (@ite _ c d x1 x2) (@ite _ c' d' y1 y2) R := by
  by_cases hc : c
  · rw [if_pos hc, if_pos (h.mp hc)]; exact h1 hc
  · rw [if_neg hc, if_neg (fun q => hc (h.mpr q))]; exact h2 hc
theorem sim_iteN {α β : Type} {c c' : Prop} {d : Decidable c} {d' : Decidable c'} {x1 x2 : Option α} {y1 y2 : Option β} {R : α → β → Prop} (h : c ↔ ¬ c') (h1 : c → sim x1 y2 R) (h2 : ¬ c → sim x2 y1 R) : sim (@ite _ c d x1 x2) (@ite _ c' d' y1 y2) R := by
  by_cases hc : c
  · rw [if_pos hc, if_neg (h.mp hc)]; exact h1 hc
  · rw [if_neg hc, if_pos (Classical.byContradiction fun q => hc (h.mpr q))]; exact h2 hc
theorem sim_iteL {α β : Type} {c : Prop} {d : Decidable c} {x1 x2 : Option α} {y : Option β} {R : α → β → Prop} (h1 : c → sim x1 y R) (h2 : ¬ c → sim x2 y R) : sim (@ite _ c d x1 x2) y R := by
  by_cases hc : c
  · rw [if_pos hc]; exact h1 hc
  · rw [if_neg hc]; exact h2 hc
theorem sim_iteR {α β : Type} {c : Prop} {d : Decidable c} {x : Option α} {y1 y2 : Option β} {R : α → β → Prop} (h1 : c → sim x y1 R) (h2 : ¬ c → sim x y2 R) : sim x (@ite _ c d y1 y2) R := by
  by_cases hc : c
  · rw [if_pos hc]; exact h1 hc
  · rw [if_neg hc]; exact h2 hc
theorem sim_posR {α β : Type} {c : Prop} {d : Decidable c} {x : Option α} {y1 y2 : Option β} {R : α → β → Prop} (hc : c) (h1 : sim x y1 R) : sim x (@ite _ c d y1 y2) R := by rw [if_pos hc]; exact h1
theorem sim_negR {α β : Type} {c : Prop} {d : Decidable c} {x : Option α} {y1 y2 : Option β} {R : α → β → Prop} (hc : ¬ c) (h1 : sim x y2 R) : sim x (@ite _ c d y1 y2) R := by rw [if_neg hc]; exact h1
theorem sim_posL {α β : Type} {c : Prop} {d : Decidable c} {x1 x2 : Option α} {y : Option β} {R : α → β → Prop} (hc : c) (h1 : sim x1 y R) : sim (@ite _ c d x1 x2) y R := by rw [if_pos hc]; exact h1
theorem sim_negL {α β : Type} {c : Prop} {d : Decidable c} {x1 x2 : Option α} {y : Option β} {R : α → β → Prop} (hc : ¬ c) (h1 : sim x2 y R) : sim (@ite _ c d x1 x2) y R := by rw [if_neg hc]; exact h1
theorem sim_mald {α β : Type} {m : Mu} {k n : Nat} {i : Int} {x : Option α} {g : Int → Option β} {R : α → β → Prop} (j : Nat) (h : i = j) (hj : j < n) (hn : n ≤ 100000) (kk : sim x (g (m.2 k j)) R) : sim x ((mald m k n i).bind g) R := sim_R (mald_e j h hj hn) kk
theorem sim_mast {α β : Type} {m : Mu} {k n : Nat} {i v : Int} {x : Option α} {g : Mu → Option β} {R : α → β → Prop} (j : Nat) (h : i = j) (hj : j < n) (hn : n ≤ 100000) (kk : sim x (g (ma m k j v)) R) : sim x ((mast m k n i v).bind g) R := sim_R (mast_e j h hj hn) kk
theorem sim_ok {α β : Type} {x : Option α} {y : Option β} {R : α → β → Prop} (h : ok x (fun a => ok y (fun b => R a b))) : sim x y R := by
  obtain ⟨a, e1, b, e2, r⟩ := h; exact ⟨a, b, e1, e2, r⟩
/-- loops in step -/
theorem sim_loop {σ τ α β : Type} (f : Nat → σ → Option α) (g : Nat → τ → Option β) (μ : σ → τ → Nat) (I : σ → τ → Prop) (R : α → β → Prop) (h : ∀ n k s t, I s t → (∀ s' t', I s' t' → μ s' t' < μ s t → sim (f n s') (g k t') R) → sim (f (n + 1) s) (g (k + 1) t) R) : ∀ n k s t, I s t → μ s t < n → μ s t < k → sim (f n s) (g k t) R := by
  intro n
  induction n with
  | zero => intro k s t _ hn; exact absurd hn (Nat.not_lt_zero _)
  | succ n ih =>
    intro k s t hI hn hk
    cases k with
    | zero => exact absurd hk (Nat.not_lt_zero _)
    | succ k => exact h n k s t hI (fun s' t' hI' hm => ih k s' t' hI' (by omega) (by omega))
/-- the same answer, the same state -/
abbrev same1 : Int → Int → Prop := fun a b => a = b
/-- the same answer behind two calls, and the relation again -/
def aft (G : CG) (L : Ly) : Int × Sg → Int × Mu → Prop := fun a b => a.1 = b.1 ∧ RC G L a.2 b.2

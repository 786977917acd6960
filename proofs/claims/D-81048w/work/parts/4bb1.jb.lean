/-! no call but type makes the text longer (partial correctness, printed by gen_jb.py) -/
def JB (B : Int) (m : Mu) : Prop := m.1 2 ≤ B ∧ 0 ≤ B
theorem JB_ms {B : Int} {m : Mu} {k : Nat} {v : Int} (h : JB B m) (hk : k ≠ 2) : JB B (ms m k v) := ⟨by rw [ms_1, if_neg (fun e => hk e.symm)]; exact h.1, h.2⟩
theorem JB_0 {B : Int} {m : Mu} (h : JB B m) : JB B (ms m 2 0) := ⟨by rw [ms_1, if_pos rfl]; exact h.2, h.2⟩
theorem JB_mast {B : Int} {m : Mu} {k n : Nat} {i v : Int} (h : JB B m) : pcO (mast m k n i v) (JB B) := fun r e => by
  unfold mast at e
  split at e
  · cases e; exact h
  · cases e
theorem pcO_inl {α β : Type} {P1 : α → Prop} {P2 : β → Prop} {q : α} (h : P1 q) : pcO (some (Sum.inl q : α ⊕ β)) (Sum.elim P1 P2) := pcO_some h
theorem pcO_inr {α β : Type} {P1 : α → Prop} {P2 : β → Prop} {q : β} (h : P2 q) : pcO (some (Sum.inr q : α ⊕ β)) (Sum.elim P1 P2) := pcO_some h
theorem pcO_irl {α β γ : Type} {P1 : α → Prop} {P2 : β → Prop} {P3 : γ → Prop} {q : β} (h : P2 q) : pcO (some (Sum.inr (Sum.inl q) : α ⊕ β ⊕ γ)) (Sum.elim P1 (Sum.elim P2 P3)) := pcO_some h
theorem pcO_irr {α β γ : Type} {P1 : α → Prop} {P2 : β → Prop} {P3 : γ → Prop} {q : γ} (h : P3 q) : pcO (some (Sum.inr (Sum.inr q) : α ⊕ β ⊕ γ)) (Sum.elim P1 (Sum.elim P2 P3)) := pcO_some h
theorem pcO_sel {α β δ : Type} {f : α → Option δ} {g : β → Option δ} {Q : δ → Prop} (h1 : ∀ a, pcO (f a) Q) (h2 : ∀ b, pcO (g b) Q) : ∀ q : α ⊕ β, pcO (Sum.elim f g q) Q := fun q => by
  cases q with
  | inl a => exact h1 a
  | inr b => exact h2 b
theorem pcO_s3 {α β γ δ : Type} {x : Option (α ⊕ β ⊕ γ)} {f : α → Option δ} {g : β → Option δ} {h : γ → Option δ} {P1 : α → Prop} {P2 : β → Prop} {P3 : γ → Prop} {Q : δ → Prop} (h0 : pcO x (Sum.elim P1 (Sum.elim P2 P3))) (h1 : ∀ q, P1 q → pcO (f q) Q) (h2 : ∀ q, P2 q → pcO (g q) Q) (h3 : ∀ q, P3 q → pcO (h q) Q) : pcO (x.bind (Sum.elim f (Sum.elim g h))) Q := pcO_bind h0 (fun a ha => by
  rcases a with a | a | a
  · exact h1 a ha
  · exact h2 a ha
  · exact h3 a ha)
theorem pcO_s2 {α β δ : Type} {x : Option (α ⊕ β)} {f : α → Option δ} {g : β → Option δ} {P1 : α → Prop} {P2 : β → Prop} {Q : δ → Prop} (h0 : pcO x (Sum.elim P1 P2)) (h1 : ∀ q, P1 q → pcO (f q) Q) (h2 : ∀ q, P2 q → pcO (g q) Q) : pcO (x.bind (Sum.elim f g)) Q := pcO_bind h0 (fun a ha => by
  cases a with
  | inl a => exact h1 a ha
  | inr b => exact h2 b ha)
theorem JB_nextName_b67 {B : Int} {m : Mu} {v1 : Int} {kh : Int → Mu → Option (Int × Mu)} (hk : ∀ (y0 : Int) (q : Mu), JB B q → pcO (kh y0 q) (fun r : Int × Mu => JB B r.2)) (h : JB B m) : pcO (m5_nextName_b67 kh v1 m) (fun r : Int × Mu => JB B r.2) := by
    unfold m5_nextName_b67
    repeat' first
      | with_reducible exact pcO_none
      | with_reducible exact pcO_some (by assumption)
      | with_reducible exact pcO_inl (by assumption)
      | with_reducible exact pcO_inr (by assumption)
      | with_reducible exact pcO_irl (by assumption)
      | with_reducible exact pcO_irr (by assumption)
      | with_reducible exact hk _ _ (by assumption)
      | with_reducible refine pcO_ite (fun _ => ?_) (fun _ => ?_)
      | with_reducible exact JB_mast (by assumption)
      | with_reducible refine pcO_bind (JB_mast (by assumption)) (fun _ _ => ?_)
      | with_reducible refine pcO_bind (pcO_some (JB_ms (by assumption) (by decide))) (fun _ _ => ?_)
      | with_reducible refine pcO_bind (pcO_some (JB_0 (by assumption))) (fun _ _ => ?_)
      | with_reducible refine pcO_any (pcO_sel (fun _ => ?_) (fun _ => ?_))
      | with_reducible refine pcO_any (fun _ => ?_)
theorem JB_nextName_b40 {B : Int} {m : Mu} {v1 : Int} {kh : Int → Mu → Option (Int × Mu)} (hk : ∀ (y0 : Int) (q : Mu), JB B q → pcO (kh y0 q) (fun r : Int × Mu => JB B r.2)) (h : JB B m) : pcO (m5_nextName_b40 kh v1 m) (fun r : Int × Mu => JB B r.2) := by
    unfold m5_nextName_b40
    repeat' first
      | with_reducible exact pcO_none
      | with_reducible exact pcO_some (by assumption)
      | with_reducible exact pcO_inl (by assumption)
      | with_reducible exact pcO_inr (by assumption)
      | with_reducible exact pcO_irl (by assumption)
      | with_reducible exact pcO_irr (by assumption)
      | with_reducible exact hk _ _ (by assumption)
      | with_reducible exact JB_nextName_b67 hk (by assumption)
      | with_reducible refine pcO_ite (fun _ => ?_) (fun _ => ?_)
      | with_reducible exact JB_mast (by assumption)
      | with_reducible refine pcO_bind (JB_mast (by assumption)) (fun _ _ => ?_)
      | with_reducible refine pcO_bind (pcO_some (JB_ms (by assumption) (by decide))) (fun _ _ => ?_)
      | with_reducible refine pcO_bind (pcO_some (JB_0 (by assumption))) (fun _ _ => ?_)
      | with_reducible refine pcO_any (pcO_sel (fun _ => ?_) (fun _ => ?_))
      | with_reducible refine pcO_any (fun _ => ?_)
theorem JB_nextName_l12 {B : Int} : ∀ (n : Nat) (x0 : Int) (m : Mu), JB B m → pcO (m5_nextName_l12  n x0 m) (fun r : Int × Mu => JB B r.2) := by
    intro n
    induction n with
    | zero => intro x0 m h; exact pcO_none
    | succ n ih =>
      intro x0 m h
      unfold m5_nextName_l12
      repeat' first
        | with_reducible exact pcO_none
        | with_reducible exact pcO_some (by assumption)
        | with_reducible exact pcO_inl (by assumption)
        | with_reducible exact pcO_inr (by assumption)
        | with_reducible exact pcO_irl (by assumption)
        | with_reducible exact pcO_irr (by assumption)
        | with_reducible exact ih _ _ (by assumption)
        | with_reducible exact JB_nextName_b40 ih (by assumption)
        | with_reducible refine pcO_ite (fun _ => ?_) (fun _ => ?_)
        | with_reducible exact JB_mast (by assumption)
        | with_reducible refine pcO_bind (JB_mast (by assumption)) (fun _ _ => ?_)
        | with_reducible refine pcO_bind (pcO_some (JB_ms (by assumption) (by decide))) (fun _ _ => ?_)
        | with_reducible refine pcO_bind (pcO_some (JB_0 (by assumption))) (fun _ _ => ?_)
        | with_reducible refine pcO_any (pcO_sel (fun _ => ?_) (fun _ => ?_))
        | with_reducible refine pcO_any (fun _ => ?_)
theorem JB_nextName_l12' {B : Int} {n : Nat} {x0 : Int} {m : Mu} (h : JB B m) : pcO (m5_nextName_l12  n x0 m) (fun r : Int × Mu => JB B r.2) := JB_nextName_l12 n x0 m h
theorem JB_nextName_l96 {B : Int} : ∀ (n : Nat) (x0 : Int) (m : Mu), JB B m → pcO (m5_nextName_l96  n x0 m) (JB B) := by
    intro n
    induction n with
    | zero => intro x0 m h; exact pcO_none
    | succ n ih =>
      intro x0 m h
      unfold m5_nextName_l96
      repeat' first
        | with_reducible exact pcO_none
        | with_reducible exact pcO_some (by assumption)
        | with_reducible exact pcO_inl (by assumption)
        | with_reducible exact pcO_inr (by assumption)
        | with_reducible exact pcO_irl (by assumption)
        | with_reducible exact pcO_irr (by assumption)
        | with_reducible exact ih _ _ (by assumption)
        | with_reducible refine pcO_ite (fun _ => ?_) (fun _ => ?_)
        | with_reducible exact JB_mast (by assumption)
        | with_reducible refine pcO_bind (JB_mast (by assumption)) (fun _ _ => ?_)
        | with_reducible refine pcO_bind (pcO_some (JB_ms (by assumption) (by decide))) (fun _ _ => ?_)
        | with_reducible refine pcO_bind (pcO_some (JB_0 (by assumption))) (fun _ _ => ?_)
        | with_reducible refine pcO_any (pcO_sel (fun _ => ?_) (fun _ => ?_))
        | with_reducible refine pcO_any (fun _ => ?_)
theorem JB_nextName_l96' {B : Int} {n : Nat} {x0 : Int} {m : Mu} (h : JB B m) : pcO (m5_nextName_l96  n x0 m) (JB B) := JB_nextName_l96 n x0 m h
theorem JB_nextName_b94 {B : Int} {m : Mu} (h : JB B m) : pcO (m5_nextName_b94 m) (JB B) := by
    unfold m5_nextName_b94
    repeat' first
      | with_reducible exact pcO_none
      | with_reducible exact pcO_some (by assumption)
      | with_reducible exact pcO_inl (by assumption)
      | with_reducible exact pcO_inr (by assumption)
      | with_reducible exact pcO_irl (by assumption)
      | with_reducible exact pcO_irr (by assumption)
      | with_reducible exact JB_nextName_l96' (by assumption)
      | with_reducible refine pcO_ite (fun _ => ?_) (fun _ => ?_)
      | with_reducible refine pcO_bind (JB_nextName_l96' (by assumption)) (fun _ _ => ?_)
      | with_reducible exact JB_mast (by assumption)
      | with_reducible refine pcO_bind (JB_mast (by assumption)) (fun _ _ => ?_)
      | with_reducible refine pcO_bind (pcO_some (JB_ms (by assumption) (by decide))) (fun _ _ => ?_)
      | with_reducible refine pcO_bind (pcO_some (JB_0 (by assumption))) (fun _ _ => ?_)
      | with_reducible refine pcO_any (pcO_sel (fun _ => ?_) (fun _ => ?_))
      | with_reducible refine pcO_any (fun _ => ?_)
theorem JB_nextName {B : Int} {m : Mu} (h : JB B m) : pcO (m5_nextName m) (JB B) := by
    unfold m5_nextName
    repeat' first
      | with_reducible exact pcO_none
      | with_reducible exact pcO_some (by assumption)
      | with_reducible exact pcO_inl (by assumption)
      | with_reducible exact pcO_inr (by assumption)
      | with_reducible exact pcO_irl (by assumption)
      | with_reducible exact pcO_irr (by assumption)
      | with_reducible exact JB_nextName_l12' (by assumption)
      | with_reducible exact JB_nextName_b94 (by assumption)
      | with_reducible refine pcO_ite (fun _ => ?_) (fun _ => ?_)
      | with_reducible refine pcO_bind (JB_nextName_l12' (by assumption)) (fun _ _ => ?_)
      | with_reducible refine pcO_bind (JB_nextName_b94 (by assumption)) (fun _ _ => ?_)
      | with_reducible exact JB_mast (by assumption)
      | with_reducible refine pcO_bind (JB_mast (by assumption)) (fun _ _ => ?_)
      | with_reducible refine pcO_bind (pcO_some (JB_ms (by assumption) (by decide))) (fun _ _ => ?_)
      | with_reducible refine pcO_bind (pcO_some (JB_0 (by assumption))) (fun _ _ => ?_)
      | with_reducible refine pcO_any (pcO_sel (fun _ => ?_) (fun _ => ?_))
      | with_reducible refine pcO_any (fun _ => ?_)
theorem JB_nextNumber_b55 {B : Int} {m : Mu} {v1 : Int} {kh : Int → Mu → Option (Int × Mu)} (hk : ∀ (y0 : Int) (q : Mu), JB B q → pcO (kh y0 q) (fun r : Int × Mu => JB B r.2)) (h : JB B m) : pcO (m5_nextNumber_b55 kh v1 m) (fun r : Int × Mu => JB B r.2) := by
    unfold m5_nextNumber_b55
    repeat' first
      | with_reducible exact pcO_none
      | with_reducible exact pcO_some (by assumption)
      | with_reducible exact pcO_inl (by assumption)
      | with_reducible exact pcO_inr (by assumption)
      | with_reducible exact pcO_irl (by assumption)
      | with_reducible exact pcO_irr (by assumption)
      | with_reducible exact hk _ _ (by assumption)
      | with_reducible refine pcO_ite (fun _ => ?_) (fun _ => ?_)
      | with_reducible exact JB_mast (by assumption)
      | with_reducible refine pcO_bind (JB_mast (by assumption)) (fun _ _ => ?_)
      | with_reducible refine pcO_bind (pcO_some (JB_ms (by assumption) (by decide))) (fun _ _ => ?_)
      | with_reducible refine pcO_bind (pcO_some (JB_0 (by assumption))) (fun _ _ => ?_)
      | with_reducible refine pcO_any (pcO_sel (fun _ => ?_) (fun _ => ?_))
      | with_reducible refine pcO_any (fun _ => ?_)
theorem JB_nextNumber_l12 {B : Int} : ∀ (n : Nat) (x0 : Int) (m : Mu), JB B m → pcO (m5_nextNumber_l12  n x0 m) (fun r : Int × Mu => JB B r.2) := by
    intro n
    induction n with
    | zero => intro x0 m h; exact pcO_none
    | succ n ih =>
      intro x0 m h
      unfold m5_nextNumber_l12
      repeat' first
        | with_reducible exact pcO_none
        | with_reducible exact pcO_some (by assumption)
        | with_reducible exact pcO_inl (by assumption)
        | with_reducible exact pcO_inr (by assumption)
        | with_reducible exact pcO_irl (by assumption)
        | with_reducible exact pcO_irr (by assumption)
        | with_reducible exact ih _ _ (by assumption)
        | with_reducible exact JB_nextNumber_b55 ih (by assumption)
        | with_reducible refine pcO_ite (fun _ => ?_) (fun _ => ?_)
        | with_reducible exact JB_mast (by assumption)
        | with_reducible refine pcO_bind (JB_mast (by assumption)) (fun _ _ => ?_)
        | with_reducible refine pcO_bind (pcO_some (JB_ms (by assumption) (by decide))) (fun _ _ => ?_)
        | with_reducible refine pcO_bind (pcO_some (JB_0 (by assumption))) (fun _ _ => ?_)
        | with_reducible refine pcO_any (pcO_sel (fun _ => ?_) (fun _ => ?_))
        | with_reducible refine pcO_any (fun _ => ?_)
theorem JB_nextNumber_l12' {B : Int} {n : Nat} {x0 : Int} {m : Mu} (h : JB B m) : pcO (m5_nextNumber_l12  n x0 m) (fun r : Int × Mu => JB B r.2) := JB_nextNumber_l12 n x0 m h
theorem JB_nextNumber {B : Int} {m : Mu} (h : JB B m) : pcO (m5_nextNumber m) (JB B) := by
    unfold m5_nextNumber
    repeat' first
      | with_reducible exact pcO_none
      | with_reducible exact pcO_some (by assumption)
      | with_reducible exact pcO_inl (by assumption)
      | with_reducible exact pcO_inr (by assumption)
      | with_reducible exact pcO_irl (by assumption)
      | with_reducible exact pcO_irr (by assumption)
      | with_reducible exact JB_nextNumber_l12' (by assumption)
      | with_reducible refine pcO_ite (fun _ => ?_) (fun _ => ?_)
      | with_reducible refine pcO_bind (JB_nextNumber_l12' (by assumption)) (fun _ _ => ?_)
      | with_reducible exact JB_mast (by assumption)
      | with_reducible refine pcO_bind (JB_mast (by assumption)) (fun _ _ => ?_)
      | with_reducible refine pcO_bind (pcO_some (JB_ms (by assumption) (by decide))) (fun _ _ => ?_)
      | with_reducible refine pcO_bind (pcO_some (JB_0 (by assumption))) (fun _ _ => ?_)
      | with_reducible refine pcO_any (pcO_sel (fun _ => ?_) (fun _ => ?_))
      | with_reducible refine pcO_any (fun _ => ?_)
theorem JB_nextSign_b119 {B : Int} {m : Mu} {s1 : Int} {s2 : Int} (h : JB B m) : pcO (m5_nextSign_b119 s1 s2 m) (JB B) := by
    unfold m5_nextSign_b119
    repeat' first
      | with_reducible exact pcO_none
      | with_reducible exact pcO_some (by assumption)
      | with_reducible exact pcO_inl (by assumption)
      | with_reducible exact pcO_inr (by assumption)
      | with_reducible exact pcO_irl (by assumption)
      | with_reducible exact pcO_irr (by assumption)
      | with_reducible refine pcO_ite (fun _ => ?_) (fun _ => ?_)
      | with_reducible exact JB_mast (by assumption)
      | with_reducible refine pcO_bind (JB_mast (by assumption)) (fun _ _ => ?_)
      | with_reducible refine pcO_bind (pcO_some (JB_ms (by assumption) (by decide))) (fun _ _ => ?_)
      | with_reducible refine pcO_bind (pcO_some (JB_0 (by assumption))) (fun _ _ => ?_)
      | with_reducible refine pcO_any (pcO_sel (fun _ => ?_) (fun _ => ?_))
      | with_reducible refine pcO_any (fun _ => ?_)
theorem JB_nextSign_b98 {B : Int} {m : Mu} {s1 : Int} (h : JB B m) : pcO (m5_nextSign_b98 s1 m) (JB B) := by
    unfold m5_nextSign_b98
    repeat' first
      | with_reducible exact pcO_none
      | with_reducible exact pcO_some (by assumption)
      | with_reducible exact pcO_inl (by assumption)
      | with_reducible exact pcO_inr (by assumption)
      | with_reducible exact pcO_irl (by assumption)
      | with_reducible exact pcO_irr (by assumption)
      | with_reducible exact JB_nextSign_b119 (by assumption)
      | with_reducible refine pcO_ite (fun _ => ?_) (fun _ => ?_)
      | with_reducible refine pcO_bind (JB_nextSign_b119 (by assumption)) (fun _ _ => ?_)
      | with_reducible exact JB_mast (by assumption)
      | with_reducible refine pcO_bind (JB_mast (by assumption)) (fun _ _ => ?_)
      | with_reducible refine pcO_bind (pcO_some (JB_ms (by assumption) (by decide))) (fun _ _ => ?_)
      | with_reducible refine pcO_bind (pcO_some (JB_0 (by assumption))) (fun _ _ => ?_)
      | with_reducible refine pcO_any (pcO_sel (fun _ => ?_) (fun _ => ?_))
      | with_reducible refine pcO_any (fun _ => ?_)
theorem JB_nextSign_b73 {B : Int} {m : Mu} {s1 : Int} {s2 : Int} (h : JB B m) : pcO (m5_nextSign_b73 s1 s2 m) (JB B) := by
    unfold m5_nextSign_b73
    repeat' first
      | with_reducible exact pcO_none
      | with_reducible exact pcO_some (by assumption)
      | with_reducible exact pcO_inl (by assumption)
      | with_reducible exact pcO_inr (by assumption)
      | with_reducible exact pcO_irl (by assumption)
      | with_reducible exact pcO_irr (by assumption)
      | with_reducible refine pcO_ite (fun _ => ?_) (fun _ => ?_)
      | with_reducible exact JB_mast (by assumption)
      | with_reducible refine pcO_bind (JB_mast (by assumption)) (fun _ _ => ?_)
      | with_reducible refine pcO_bind (pcO_some (JB_ms (by assumption) (by decide))) (fun _ _ => ?_)
      | with_reducible refine pcO_bind (pcO_some (JB_0 (by assumption))) (fun _ _ => ?_)
      | with_reducible refine pcO_any (pcO_sel (fun _ => ?_) (fun _ => ?_))
      | with_reducible refine pcO_any (fun _ => ?_)
theorem JB_nextSign_b52 {B : Int} {m : Mu} {s1 : Int} (h : JB B m) : pcO (m5_nextSign_b52 s1 m) (JB B) := by
    unfold m5_nextSign_b52
    repeat' first
      | with_reducible exact pcO_none
      | with_reducible exact pcO_some (by assumption)
      | with_reducible exact pcO_inl (by assumption)
      | with_reducible exact pcO_inr (by assumption)
      | with_reducible exact pcO_irl (by assumption)
      | with_reducible exact pcO_irr (by assumption)
      | with_reducible exact JB_nextSign_b73 (by assumption)
      | with_reducible refine pcO_ite (fun _ => ?_) (fun _ => ?_)
      | with_reducible refine pcO_bind (JB_nextSign_b73 (by assumption)) (fun _ _ => ?_)
      | with_reducible exact JB_mast (by assumption)
      | with_reducible refine pcO_bind (JB_mast (by assumption)) (fun _ _ => ?_)
      | with_reducible refine pcO_bind (pcO_some (JB_ms (by assumption) (by decide))) (fun _ _ => ?_)
      | with_reducible refine pcO_bind (pcO_some (JB_0 (by assumption))) (fun _ _ => ?_)
      | with_reducible refine pcO_any (pcO_sel (fun _ => ?_) (fun _ => ?_))
      | with_reducible refine pcO_any (fun _ => ?_)
theorem JB_nextSign {B : Int} {m : Mu} {v1 : Int} (h : JB B m) : pcO (m5_nextSign v1 m) (JB B) := by
    unfold m5_nextSign
    repeat' first
      | with_reducible exact pcO_none
      | with_reducible exact pcO_some (by assumption)
      | with_reducible exact pcO_inl (by assumption)
      | with_reducible exact pcO_inr (by assumption)
      | with_reducible exact pcO_irl (by assumption)
      | with_reducible exact pcO_irr (by assumption)
      | with_reducible exact JB_nextSign_b52 (by assumption)
      | with_reducible exact JB_nextSign_b98 (by assumption)
      | with_reducible refine pcO_ite (fun _ => ?_) (fun _ => ?_)
      | with_reducible refine pcO_bind (JB_nextSign_b52 (by assumption)) (fun _ _ => ?_)
      | with_reducible refine pcO_bind (JB_nextSign_b98 (by assumption)) (fun _ _ => ?_)
      | with_reducible exact JB_mast (by assumption)
      | with_reducible refine pcO_bind (JB_mast (by assumption)) (fun _ _ => ?_)
      | with_reducible refine pcO_bind (pcO_some (JB_ms (by assumption) (by decide))) (fun _ _ => ?_)
      | with_reducible refine pcO_bind (pcO_some (JB_0 (by assumption))) (fun _ _ => ?_)
      | with_reducible refine pcO_any (pcO_sel (fun _ => ?_) (fun _ => ?_))
      | with_reducible refine pcO_any (fun _ => ?_)
theorem JB_next_b39 {B : Int} {m : Mu} {v1 : Int} {kh : Int → Mu → Option (Mu)} (hk : ∀ (y0 : Int) (q : Mu), JB B q → pcO (kh y0 q) (JB B)) (h : JB B m) : pcO (m5_next_b39 kh v1 m) (JB B) := by
    unfold m5_next_b39
    repeat' first
      | with_reducible exact pcO_none
      | with_reducible exact pcO_some (by assumption)
      | with_reducible exact pcO_inl (by assumption)
      | with_reducible exact pcO_inr (by assumption)
      | with_reducible exact pcO_irl (by assumption)
      | with_reducible exact pcO_irr (by assumption)
      | with_reducible exact hk _ _ (by assumption)
      | with_reducible refine pcO_ite (fun _ => ?_) (fun _ => ?_)
      | with_reducible exact JB_mast (by assumption)
      | with_reducible refine pcO_bind (JB_mast (by assumption)) (fun _ _ => ?_)
      | with_reducible refine pcO_bind (pcO_some (JB_ms (by assumption) (by decide))) (fun _ _ => ?_)
      | with_reducible refine pcO_bind (pcO_some (JB_0 (by assumption))) (fun _ _ => ?_)
      | with_reducible refine pcO_any (pcO_sel (fun _ => ?_) (fun _ => ?_))
      | with_reducible refine pcO_any (fun _ => ?_)
theorem JB_next_l58 {B : Int} {v1 : Int} : ∀ (n : Nat) (m : Mu), JB B m → pcO (m5_next_l58 v1 n  m) (JB B) := by
    intro n
    induction n with
    | zero => intro  m h; exact pcO_none
    | succ n ih =>
      intro  m h
      unfold m5_next_l58
      repeat' first
        | with_reducible exact pcO_none
        | with_reducible exact pcO_some (by assumption)
        | with_reducible exact pcO_inl (by assumption)
        | with_reducible exact pcO_inr (by assumption)
        | with_reducible exact pcO_irl (by assumption)
        | with_reducible exact pcO_irr (by assumption)
        | with_reducible exact ih _ (by assumption)
        | with_reducible refine pcO_ite (fun _ => ?_) (fun _ => ?_)
        | with_reducible exact JB_mast (by assumption)
        | with_reducible refine pcO_bind (JB_mast (by assumption)) (fun _ _ => ?_)
        | with_reducible refine pcO_bind (pcO_some (JB_ms (by assumption) (by decide))) (fun _ _ => ?_)
        | with_reducible refine pcO_bind (pcO_some (JB_0 (by assumption))) (fun _ _ => ?_)
        | with_reducible refine pcO_any (pcO_sel (fun _ => ?_) (fun _ => ?_))
        | with_reducible refine pcO_any (fun _ => ?_)
theorem JB_next_l58' {B : Int} {n : Nat} {v1 : Int} {m : Mu} (h : JB B m) : pcO (m5_next_l58 v1 n  m) (JB B) := JB_next_l58 n  m h
theorem JB_next_l2 {B : Int} : ∀ (n : Nat) (x0 : Int) (m : Mu), JB B m → pcO (m5_next_l2  n x0 m) (JB B) := by
    intro n
    induction n with
    | zero => intro x0 m h; exact pcO_none
    | succ n ih =>
      intro x0 m h
      unfold m5_next_l2
      repeat' first
        | with_reducible exact pcO_none
        | with_reducible exact pcO_some (by assumption)
        | with_reducible exact pcO_inl (by assumption)
        | with_reducible exact pcO_inr (by assumption)
        | with_reducible exact pcO_irl (by assumption)
        | with_reducible exact pcO_irr (by assumption)
        | with_reducible exact ih _ _ (by assumption)
        | with_reducible exact JB_next_b39 ih (by assumption)
        | with_reducible exact JB_next_l58' (by assumption)
        | with_reducible refine pcO_ite (fun _ => ?_) (fun _ => ?_)
        | with_reducible refine pcO_bind (JB_next_l58' (by assumption)) (fun _ _ => ?_)
        | with_reducible exact JB_mast (by assumption)
        | with_reducible refine pcO_bind (JB_mast (by assumption)) (fun _ _ => ?_)
        | with_reducible refine pcO_bind (pcO_some (JB_ms (by assumption) (by decide))) (fun _ _ => ?_)
        | with_reducible refine pcO_bind (pcO_some (JB_0 (by assumption))) (fun _ _ => ?_)
        | with_reducible refine pcO_any (pcO_sel (fun _ => ?_) (fun _ => ?_))
        | with_reducible refine pcO_any (fun _ => ?_)
theorem JB_next_l2' {B : Int} {n : Nat} {x0 : Int} {m : Mu} (h : JB B m) : pcO (m5_next_l2  n x0 m) (JB B) := JB_next_l2 n x0 m h
theorem JB_next {B : Int} {m : Mu} (h : JB B m) : pcO (m5_next m) (JB B) := by
    unfold m5_next
    repeat' first
      | with_reducible exact pcO_none
      | with_reducible exact pcO_some (by assumption)
      | with_reducible exact pcO_inl (by assumption)
      | with_reducible exact pcO_inr (by assumption)
      | with_reducible exact pcO_irl (by assumption)
      | with_reducible exact pcO_irr (by assumption)
      | with_reducible exact JB_next_l2' (by assumption)
      | with_reducible exact JB_nextSign (by assumption)
      | with_reducible exact JB_nextNumber (by assumption)
      | with_reducible exact JB_nextName (by assumption)
      | with_reducible refine pcO_ite (fun _ => ?_) (fun _ => ?_)
      | with_reducible refine pcO_bind (JB_next_l2' (by assumption)) (fun _ _ => ?_)
      | with_reducible refine pcO_bind (JB_nextSign (by assumption)) (fun _ _ => ?_)
      | with_reducible refine pcO_bind (JB_nextNumber (by assumption)) (fun _ _ => ?_)
      | with_reducible refine pcO_bind (JB_nextName (by assumption)) (fun _ _ => ?_)
      | with_reducible exact JB_mast (by assumption)
      | with_reducible refine pcO_bind (JB_mast (by assumption)) (fun _ _ => ?_)
      | with_reducible refine pcO_bind (pcO_some (JB_ms (by assumption) (by decide))) (fun _ _ => ?_)
      | with_reducible refine pcO_bind (pcO_some (JB_0 (by assumption))) (fun _ _ => ?_)
      | with_reducible refine pcO_any (pcO_sel (fun _ => ?_) (fun _ => ?_))
      | with_reducible refine pcO_any (fun _ => ?_)
theorem JB_beginText {B : Int} {m : Mu} {v1 : Int} {v2 : Int} (h : JB B m) : pcO (m5_beginText v1 v2 m) (JB B) := by
    unfold m5_beginText
    repeat' first
      | with_reducible exact pcO_none
      | with_reducible exact pcO_some (by assumption)
      | with_reducible exact pcO_inl (by assumption)
      | with_reducible exact pcO_inr (by assumption)
      | with_reducible exact pcO_irl (by assumption)
      | with_reducible exact pcO_irr (by assumption)
      | with_reducible exact JB_next (by assumption)
      | with_reducible refine pcO_ite (fun _ => ?_) (fun _ => ?_)
      | with_reducible refine pcO_bind (JB_next (by assumption)) (fun _ _ => ?_)
      | with_reducible exact JB_mast (by assumption)
      | with_reducible refine pcO_bind (JB_mast (by assumption)) (fun _ _ => ?_)
      | with_reducible refine pcO_bind (pcO_some (JB_ms (by assumption) (by decide))) (fun _ _ => ?_)
      | with_reducible refine pcO_bind (pcO_some (JB_0 (by assumption))) (fun _ _ => ?_)
      | with_reducible refine pcO_any (pcO_sel (fun _ => ?_) (fun _ => ?_))
      | with_reducible refine pcO_any (fun _ => ?_)
theorem JB_clear_l37 {B : Int} {v1 : Int} : ∀ (n : Nat) (x0 : Int) (m : Mu), JB B m → pcO (m5_clear_l37 v1 n x0 m) (JB B) := by
    intro n
    induction n with
    | zero => intro x0 m h; exact pcO_none
    | succ n ih =>
      intro x0 m h
      unfold m5_clear_l37
      repeat' first
        | with_reducible exact pcO_none
        | with_reducible exact pcO_some (by assumption)
        | with_reducible exact pcO_inl (by assumption)
        | with_reducible exact pcO_inr (by assumption)
        | with_reducible exact pcO_irl (by assumption)
        | with_reducible exact pcO_irr (by assumption)
        | with_reducible exact ih _ _ (by assumption)
        | with_reducible refine pcO_ite (fun _ => ?_) (fun _ => ?_)
        | with_reducible exact JB_mast (by assumption)
        | with_reducible refine pcO_bind (JB_mast (by assumption)) (fun _ _ => ?_)
        | with_reducible refine pcO_bind (pcO_some (JB_ms (by assumption) (by decide))) (fun _ _ => ?_)
        | with_reducible refine pcO_bind (pcO_some (JB_0 (by assumption))) (fun _ _ => ?_)
        | with_reducible refine pcO_any (pcO_sel (fun _ => ?_) (fun _ => ?_))
        | with_reducible refine pcO_any (fun _ => ?_)
theorem JB_clear_l37' {B : Int} {n : Nat} {v1 : Int} {x0 : Int} {m : Mu} (h : JB B m) : pcO (m5_clear_l37 v1 n x0 m) (JB B) := JB_clear_l37 n x0 m h
theorem JB_clear {B : Int} {m : Mu} {v1 : Int} (h : JB B m) : pcO (m5_clear v1 m) (JB B) := by
    unfold m5_clear
    repeat' first
      | with_reducible exact pcO_none
      | with_reducible exact pcO_some (by assumption)
      | with_reducible exact pcO_inl (by assumption)
      | with_reducible exact pcO_inr (by assumption)
      | with_reducible exact pcO_irl (by assumption)
      | with_reducible exact pcO_irr (by assumption)
      | with_reducible exact JB_clear_l37' (by assumption)
      | with_reducible refine pcO_ite (fun _ => ?_) (fun _ => ?_)
      | with_reducible refine pcO_bind (JB_clear_l37' (by assumption)) (fun _ _ => ?_)
      | with_reducible exact JB_mast (by assumption)
      | with_reducible refine pcO_bind (JB_mast (by assumption)) (fun _ _ => ?_)
      | with_reducible refine pcO_bind (pcO_some (JB_ms (by assumption) (by decide))) (fun _ _ => ?_)
      | with_reducible refine pcO_bind (pcO_some (JB_0 (by assumption))) (fun _ _ => ?_)
      | with_reducible refine pcO_any (pcO_sel (fun _ => ?_) (fun _ => ?_))
      | with_reducible refine pcO_any (fun _ => ?_)
theorem JB_copyWording_l133 {B : Int} {v1 : Int} {v2 : Int} {v3 : Int} : ∀ (n : Nat) (x0 : Int) (m : Mu), JB B m → pcO (m5_copyWording_l133 v1 v2 v3 n x0 m) (JB B) := by
    intro n
    induction n with
    | zero => intro x0 m h; exact pcO_none
    | succ n ih =>
      intro x0 m h
      unfold m5_copyWording_l133
      repeat' first
        | with_reducible exact pcO_none
        | with_reducible exact pcO_some (by assumption)
        | with_reducible exact pcO_inl (by assumption)
        | with_reducible exact pcO_inr (by assumption)
        | with_reducible exact pcO_irl (by assumption)
        | with_reducible exact pcO_irr (by assumption)
        | with_reducible exact ih _ _ (by assumption)
        | with_reducible refine pcO_ite (fun _ => ?_) (fun _ => ?_)
        | with_reducible exact JB_mast (by assumption)
        | with_reducible refine pcO_bind (JB_mast (by assumption)) (fun _ _ => ?_)
        | with_reducible refine pcO_bind (pcO_some (JB_ms (by assumption) (by decide))) (fun _ _ => ?_)
        | with_reducible refine pcO_bind (pcO_some (JB_0 (by assumption))) (fun _ _ => ?_)
        | with_reducible refine pcO_any (pcO_sel (fun _ => ?_) (fun _ => ?_))
        | with_reducible refine pcO_any (fun _ => ?_)
theorem JB_copyWording_l133' {B : Int} {n : Nat} {v1 : Int} {v2 : Int} {v3 : Int} {x0 : Int} {m : Mu} (h : JB B m) : pcO (m5_copyWording_l133 v1 v2 v3 n x0 m) (JB B) := JB_copyWording_l133 n x0 m h
theorem JB_copyWording_l14 {B : Int} {v1 : Int} {v2 : Int} : ∀ (n : Nat) (x0 : Int) (m : Mu), JB B m → pcO (m5_copyWording_l14 v1 v2 n x0 m) (JB B) := by
    intro n
    induction n with
    | zero => intro x0 m h; exact pcO_none
    | succ n ih =>
      intro x0 m h
      unfold m5_copyWording_l14
      repeat' first
        | with_reducible exact pcO_none
        | with_reducible exact pcO_some (by assumption)
        | with_reducible exact pcO_inl (by assumption)
        | with_reducible exact pcO_inr (by assumption)
        | with_reducible exact pcO_irl (by assumption)
        | with_reducible exact pcO_irr (by assumption)
        | with_reducible exact ih _ _ (by assumption)
        | with_reducible exact JB_copyWording_l133' (by assumption)
        | with_reducible refine pcO_ite (fun _ => ?_) (fun _ => ?_)
        | with_reducible refine pcO_bind (JB_copyWording_l133' (by assumption)) (fun _ _ => ?_)
        | with_reducible exact JB_mast (by assumption)
        | with_reducible refine pcO_bind (JB_mast (by assumption)) (fun _ _ => ?_)
        | with_reducible refine pcO_bind (pcO_some (JB_ms (by assumption) (by decide))) (fun _ _ => ?_)
        | with_reducible refine pcO_bind (pcO_some (JB_0 (by assumption))) (fun _ _ => ?_)
        | with_reducible refine pcO_any (pcO_sel (fun _ => ?_) (fun _ => ?_))
        | with_reducible refine pcO_any (fun _ => ?_)
theorem JB_copyWording_l14' {B : Int} {n : Nat} {v1 : Int} {v2 : Int} {x0 : Int} {m : Mu} (h : JB B m) : pcO (m5_copyWording_l14 v1 v2 n x0 m) (JB B) := JB_copyWording_l14 n x0 m h
theorem JB_copyWording_l200 {B : Int} {v1 : Int} {v2 : Int} : ∀ (n : Nat) (x0 : Int) (m : Mu), JB B m → pcO (m5_copyWording_l200 v1 v2 n x0 m) (JB B) := by
    intro n
    induction n with
    | zero => intro x0 m h; exact pcO_none
    | succ n ih =>
      intro x0 m h
      unfold m5_copyWording_l200
      repeat' first
        | with_reducible exact pcO_none
        | with_reducible exact pcO_some (by assumption)
        | with_reducible exact pcO_inl (by assumption)
        | with_reducible exact pcO_inr (by assumption)
        | with_reducible exact pcO_irl (by assumption)
        | with_reducible exact pcO_irr (by assumption)
        | with_reducible exact ih _ _ (by assumption)
        | with_reducible refine pcO_ite (fun _ => ?_) (fun _ => ?_)
        | with_reducible exact JB_mast (by assumption)
        | with_reducible refine pcO_bind (JB_mast (by assumption)) (fun _ _ => ?_)
        | with_reducible refine pcO_bind (pcO_some (JB_ms (by assumption) (by decide))) (fun _ _ => ?_)
        | with_reducible refine pcO_bind (pcO_some (JB_0 (by assumption))) (fun _ _ => ?_)
        | with_reducible refine pcO_any (pcO_sel (fun _ => ?_) (fun _ => ?_))
        | with_reducible refine pcO_any (fun _ => ?_)
theorem JB_copyWording_l200' {B : Int} {n : Nat} {v1 : Int} {v2 : Int} {x0 : Int} {m : Mu} (h : JB B m) : pcO (m5_copyWording_l200 v1 v2 n x0 m) (JB B) := JB_copyWording_l200 n x0 m h
theorem JB_copyWording_l248 {B : Int} {v1 : Int} {v2 : Int} : ∀ (n : Nat) (x0 : Int) (m : Mu), JB B m → pcO (m5_copyWording_l248 v1 v2 n x0 m) (JB B) := by
    intro n
    induction n with
    | zero => intro x0 m h; exact pcO_none
    | succ n ih =>
      intro x0 m h
      unfold m5_copyWording_l248
      repeat' first
        | with_reducible exact pcO_none
        | with_reducible exact pcO_some (by assumption)
        | with_reducible exact pcO_inl (by assumption)
        | with_reducible exact pcO_inr (by assumption)
        | with_reducible exact pcO_irl (by assumption)
        | with_reducible exact pcO_irr (by assumption)
        | with_reducible exact ih _ _ (by assumption)
        | with_reducible refine pcO_ite (fun _ => ?_) (fun _ => ?_)
        | with_reducible exact JB_mast (by assumption)
        | with_reducible refine pcO_bind (JB_mast (by assumption)) (fun _ _ => ?_)
        | with_reducible refine pcO_bind (pcO_some (JB_ms (by assumption) (by decide))) (fun _ _ => ?_)
        | with_reducible refine pcO_bind (pcO_some (JB_0 (by assumption))) (fun _ _ => ?_)
        | with_reducible refine pcO_any (pcO_sel (fun _ => ?_) (fun _ => ?_))
        | with_reducible refine pcO_any (fun _ => ?_)
theorem JB_copyWording_l248' {B : Int} {n : Nat} {v1 : Int} {v2 : Int} {x0 : Int} {m : Mu} (h : JB B m) : pcO (m5_copyWording_l248 v1 v2 n x0 m) (JB B) := JB_copyWording_l248 n x0 m h
theorem JB_copyWording_l306 {B : Int} {v1 : Int} {v2 : Int} : ∀ (n : Nat) (x0 : Int) (m : Mu), JB B m → pcO (m5_copyWording_l306 v1 v2 n x0 m) (JB B) := by
    intro n
    induction n with
    | zero => intro x0 m h; exact pcO_none
    | succ n ih =>
      intro x0 m h
      unfold m5_copyWording_l306
      repeat' first
        | with_reducible exact pcO_none
        | with_reducible exact pcO_some (by assumption)
        | with_reducible exact pcO_inl (by assumption)
        | with_reducible exact pcO_inr (by assumption)
        | with_reducible exact pcO_irl (by assumption)
        | with_reducible exact pcO_irr (by assumption)
        | with_reducible exact ih _ _ (by assumption)
        | with_reducible refine pcO_ite (fun _ => ?_) (fun _ => ?_)
        | with_reducible exact JB_mast (by assumption)
        | with_reducible refine pcO_bind (JB_mast (by assumption)) (fun _ _ => ?_)
        | with_reducible refine pcO_bind (pcO_some (JB_ms (by assumption) (by decide))) (fun _ _ => ?_)
        | with_reducible refine pcO_bind (pcO_some (JB_0 (by assumption))) (fun _ _ => ?_)
        | with_reducible refine pcO_any (pcO_sel (fun _ => ?_) (fun _ => ?_))
        | with_reducible refine pcO_any (fun _ => ?_)
theorem JB_copyWording_l306' {B : Int} {n : Nat} {v1 : Int} {v2 : Int} {x0 : Int} {m : Mu} (h : JB B m) : pcO (m5_copyWording_l306 v1 v2 n x0 m) (JB B) := JB_copyWording_l306 n x0 m h
theorem JB_copyWording {B : Int} {m : Mu} {v1 : Int} {v2 : Int} (h : JB B m) : pcO (m5_copyWording v1 v2 m) (JB B) := by
    unfold m5_copyWording
    repeat' first
      | with_reducible exact pcO_none
      | with_reducible exact pcO_some (by assumption)
      | with_reducible exact pcO_inl (by assumption)
      | with_reducible exact pcO_inr (by assumption)
      | with_reducible exact pcO_irl (by assumption)
      | with_reducible exact pcO_irr (by assumption)
      | with_reducible exact JB_copyWording_l14' (by assumption)
      | with_reducible exact JB_copyWording_l200' (by assumption)
      | with_reducible exact JB_copyWording_l248' (by assumption)
      | with_reducible exact JB_copyWording_l306' (by assumption)
      | with_reducible refine pcO_ite (fun _ => ?_) (fun _ => ?_)
      | with_reducible refine pcO_bind (JB_copyWording_l14' (by assumption)) (fun _ _ => ?_)
      | with_reducible refine pcO_bind (JB_copyWording_l200' (by assumption)) (fun _ _ => ?_)
      | with_reducible refine pcO_bind (JB_copyWording_l248' (by assumption)) (fun _ _ => ?_)
      | with_reducible refine pcO_bind (JB_copyWording_l306' (by assumption)) (fun _ _ => ?_)
      | with_reducible exact JB_mast (by assumption)
      | with_reducible refine pcO_bind (JB_mast (by assumption)) (fun _ _ => ?_)
      | with_reducible refine pcO_bind (pcO_some (JB_ms (by assumption) (by decide))) (fun _ _ => ?_)
      | with_reducible refine pcO_bind (pcO_some (JB_0 (by assumption))) (fun _ _ => ?_)
      | with_reducible refine pcO_any (pcO_sel (fun _ => ?_) (fun _ => ?_))
      | with_reducible refine pcO_any (fun _ => ?_)
theorem JB_ended_b21 {B : Int} {m : Mu} {s1 : Int} (h : JB B m) : pcO (m5_ended_b21 s1 m) (fun r : Int × Mu => JB B r.2) := by
    unfold m5_ended_b21
    repeat' first
      | with_reducible exact pcO_none
      | with_reducible exact pcO_some (by assumption)
      | with_reducible exact pcO_inl (by assumption)
      | with_reducible exact pcO_inr (by assumption)
      | with_reducible exact pcO_irl (by assumption)
      | with_reducible exact pcO_irr (by assumption)
      | with_reducible refine pcO_ite (fun _ => ?_) (fun _ => ?_)
      | with_reducible exact JB_mast (by assumption)
      | with_reducible refine pcO_bind (JB_mast (by assumption)) (fun _ _ => ?_)
      | with_reducible refine pcO_bind (pcO_some (JB_ms (by assumption) (by decide))) (fun _ _ => ?_)
      | with_reducible refine pcO_bind (pcO_some (JB_0 (by assumption))) (fun _ _ => ?_)
      | with_reducible refine pcO_any (pcO_sel (fun _ => ?_) (fun _ => ?_))
      | with_reducible refine pcO_any (fun _ => ?_)
theorem JB_ended {B : Int} {m : Mu} (h : JB B m) : pcO (m5_ended m) (fun r : Int × Mu => JB B r.2) := by
    unfold m5_ended
    repeat' first
      | with_reducible exact pcO_none
      | with_reducible exact pcO_some (by assumption)
      | with_reducible exact pcO_inl (by assumption)
      | with_reducible exact pcO_inr (by assumption)
      | with_reducible exact pcO_irl (by assumption)
      | with_reducible exact pcO_irr (by assumption)
      | with_reducible exact JB_ended_b21 (by assumption)
      | with_reducible refine pcO_ite (fun _ => ?_) (fun _ => ?_)
      | with_reducible refine pcO_bind (JB_ended_b21 (by assumption)) (fun _ _ => ?_)
      | with_reducible exact JB_mast (by assumption)
      | with_reducible refine pcO_bind (JB_mast (by assumption)) (fun _ _ => ?_)
      | with_reducible refine pcO_bind (pcO_some (JB_ms (by assumption) (by decide))) (fun _ _ => ?_)
      | with_reducible refine pcO_bind (pcO_some (JB_0 (by assumption))) (fun _ _ => ?_)
      | with_reducible refine pcO_any (pcO_sel (fun _ => ?_) (fun _ => ?_))
      | with_reducible refine pcO_any (fun _ => ?_)
theorem JB_isTrue_b213 {B : Int} {m : Mu} {v1 : Int} {v3 : Int} {v4 : Int} {v5 : Int} {s1 : Int} {kh : Int → Int → Mu → Option (Mu)} (hk : ∀ (y0 : Int) (y1 : Int) (q : Mu), JB B q → pcO (kh y0 y1 q) (JB B)) (h : JB B m) : pcO (m5_isTrue_b213 kh v1 v3 v4 v5 s1 m) (JB B) := by
    unfold m5_isTrue_b213
    repeat' first
      | with_reducible exact pcO_none
      | with_reducible exact pcO_some (by assumption)
      | with_reducible exact pcO_inl (by assumption)
      | with_reducible exact pcO_inr (by assumption)
      | with_reducible exact pcO_irl (by assumption)
      | with_reducible exact pcO_irr (by assumption)
      | with_reducible exact hk _ _ _ (by assumption)
      | with_reducible refine pcO_ite (fun _ => ?_) (fun _ => ?_)
      | with_reducible exact JB_mast (by assumption)
      | with_reducible refine pcO_bind (JB_mast (by assumption)) (fun _ _ => ?_)
      | with_reducible refine pcO_bind (pcO_some (JB_ms (by assumption) (by decide))) (fun _ _ => ?_)
      | with_reducible refine pcO_bind (pcO_some (JB_0 (by assumption))) (fun _ _ => ?_)
      | with_reducible refine pcO_any (pcO_sel (fun _ => ?_) (fun _ => ?_))
      | with_reducible refine pcO_any (fun _ => ?_)
theorem JB_isTrue_b187 {B : Int} {m : Mu} {v1 : Int} {v3 : Int} {v4 : Int} {v5 : Int} {s1 : Int} {kh : Int → Int → Mu → Option (Mu)} (hk : ∀ (y0 : Int) (y1 : Int) (q : Mu), JB B q → pcO (kh y0 y1 q) (JB B)) (h : JB B m) : pcO (m5_isTrue_b187 kh v1 v3 v4 v5 s1 m) (JB B) := by
    unfold m5_isTrue_b187
    repeat' first
      | with_reducible exact pcO_none
      | with_reducible exact pcO_some (by assumption)
      | with_reducible exact pcO_inl (by assumption)
      | with_reducible exact pcO_inr (by assumption)
      | with_reducible exact pcO_irl (by assumption)
      | with_reducible exact pcO_irr (by assumption)
      | with_reducible exact hk _ _ _ (by assumption)
      | with_reducible refine pcO_ite (fun _ => ?_) (fun _ => ?_)
      | with_reducible exact JB_mast (by assumption)
      | with_reducible refine pcO_bind (JB_mast (by assumption)) (fun _ _ => ?_)
      | with_reducible refine pcO_bind (pcO_some (JB_ms (by assumption) (by decide))) (fun _ _ => ?_)
      | with_reducible refine pcO_bind (pcO_some (JB_0 (by assumption))) (fun _ _ => ?_)
      | with_reducible refine pcO_any (pcO_sel (fun _ => ?_) (fun _ => ?_))
      | with_reducible refine pcO_any (fun _ => ?_)
theorem JB_isTrue_b140 {B : Int} {m : Mu} {v1 : Int} {v3 : Int} {v4 : Int} {v5 : Int} {s1 : Int} {s2 : Int} {kh : Int → Int → Mu → Option (Mu)} (hk : ∀ (y0 : Int) (y1 : Int) (q : Mu), JB B q → pcO (kh y0 y1 q) (JB B)) (h : JB B m) : pcO (m5_isTrue_b140 kh v1 v3 v4 v5 s1 s2 m) (JB B) := by
    unfold m5_isTrue_b140
    repeat' first
      | with_reducible exact pcO_none
      | with_reducible exact pcO_some (by assumption)
      | with_reducible exact pcO_inl (by assumption)
      | with_reducible exact pcO_inr (by assumption)
      | with_reducible exact pcO_irl (by assumption)
      | with_reducible exact pcO_irr (by assumption)
      | with_reducible exact hk _ _ _ (by assumption)
      | with_reducible refine pcO_ite (fun _ => ?_) (fun _ => ?_)
      | with_reducible exact JB_mast (by assumption)
      | with_reducible refine pcO_bind (JB_mast (by assumption)) (fun _ _ => ?_)
      | with_reducible refine pcO_bind (pcO_some (JB_ms (by assumption) (by decide))) (fun _ _ => ?_)
      | with_reducible refine pcO_bind (pcO_some (JB_0 (by assumption))) (fun _ _ => ?_)
      | with_reducible refine pcO_any (pcO_sel (fun _ => ?_) (fun _ => ?_))
      | with_reducible refine pcO_any (fun _ => ?_)
theorem JB_isTrue_l6 {B : Int} {v1 : Int} {v3 : Int} : ∀ (n : Nat) (x0 : Int) (x1 : Int) (m : Mu), JB B m → pcO (m5_isTrue_l6 v1 v3 n x0 x1 m) (JB B) := by
    intro n
    induction n with
    | zero => intro x0 x1 m h; exact pcO_none
    | succ n ih =>
      intro x0 x1 m h
      unfold m5_isTrue_l6
      repeat' first
        | with_reducible exact pcO_none
        | with_reducible exact pcO_some (by assumption)
        | with_reducible exact pcO_inl (by assumption)
        | with_reducible exact pcO_inr (by assumption)
        | with_reducible exact pcO_irl (by assumption)
        | with_reducible exact pcO_irr (by assumption)
        | with_reducible exact ih _ _ _ (by assumption)
        | with_reducible exact JB_isTrue_b140 ih (by assumption)
        | with_reducible exact JB_isTrue_b187 ih (by assumption)
        | with_reducible exact JB_isTrue_b213 ih (by assumption)
        | with_reducible refine pcO_ite (fun _ => ?_) (fun _ => ?_)
        | with_reducible exact JB_mast (by assumption)
        | with_reducible refine pcO_bind (JB_mast (by assumption)) (fun _ _ => ?_)
        | with_reducible refine pcO_bind (pcO_some (JB_ms (by assumption) (by decide))) (fun _ _ => ?_)
        | with_reducible refine pcO_bind (pcO_some (JB_0 (by assumption))) (fun _ _ => ?_)
        | with_reducible refine pcO_any (pcO_sel (fun _ => ?_) (fun _ => ?_))
        | with_reducible refine pcO_any (fun _ => ?_)
theorem JB_isTrue_l6' {B : Int} {n : Nat} {v1 : Int} {v3 : Int} {x0 : Int} {x1 : Int} {m : Mu} (h : JB B m) : pcO (m5_isTrue_l6 v1 v3 n x0 x1 m) (JB B) := JB_isTrue_l6 n x0 x1 m h
theorem JB_isTrue {B : Int} {m : Mu} {v1 : Int} {v2 : Int} {v3 : Int} (h : JB B m) : pcO (m5_isTrue v1 v2 v3 m) (fun r : Int × Mu => JB B r.2) := by
    unfold m5_isTrue
    repeat' first
      | with_reducible exact pcO_none
      | with_reducible exact pcO_some (by assumption)
      | with_reducible exact pcO_inl (by assumption)
      | with_reducible exact pcO_inr (by assumption)
      | with_reducible exact pcO_irl (by assumption)
      | with_reducible exact pcO_irr (by assumption)
      | with_reducible exact JB_isTrue_l6' (by assumption)
      | with_reducible refine pcO_ite (fun _ => ?_) (fun _ => ?_)
      | with_reducible refine pcO_bind (JB_isTrue_l6' (by assumption)) (fun _ _ => ?_)
      | with_reducible exact JB_mast (by assumption)
      | with_reducible refine pcO_bind (JB_mast (by assumption)) (fun _ _ => ?_)
      | with_reducible refine pcO_bind (pcO_some (JB_ms (by assumption) (by decide))) (fun _ _ => ?_)
      | with_reducible refine pcO_bind (pcO_some (JB_0 (by assumption))) (fun _ _ => ?_)
      | with_reducible refine pcO_any (pcO_sel (fun _ => ?_) (fun _ => ?_))
      | with_reducible refine pcO_any (fun _ => ?_)
theorem JB_findMeant_l2 {B : Int} {v1 : Int} : ∀ (n : Nat) (x0 : Int) (m : Mu), JB B m → pcO (m5_findMeant_l2 v1 n x0 m) (JB B) := by
    intro n
    induction n with
    | zero => intro x0 m h; exact pcO_none
    | succ n ih =>
      intro x0 m h
      unfold m5_findMeant_l2
      repeat' first
        | with_reducible exact pcO_none
        | with_reducible exact pcO_some (by assumption)
        | with_reducible exact pcO_inl (by assumption)
        | with_reducible exact pcO_inr (by assumption)
        | with_reducible exact pcO_irl (by assumption)
        | with_reducible exact pcO_irr (by assumption)
        | with_reducible exact ih _ _ (by assumption)
        | with_reducible exact JB_isTrue (by assumption)
        | with_reducible refine pcO_ite (fun _ => ?_) (fun _ => ?_)
        | with_reducible refine pcO_bind (JB_isTrue (by assumption)) (fun _ _ => ?_)
        | with_reducible exact JB_mast (by assumption)
        | with_reducible refine pcO_bind (JB_mast (by assumption)) (fun _ _ => ?_)
        | with_reducible refine pcO_bind (pcO_some (JB_ms (by assumption) (by decide))) (fun _ _ => ?_)
        | with_reducible refine pcO_bind (pcO_some (JB_0 (by assumption))) (fun _ _ => ?_)
        | with_reducible refine pcO_any (pcO_sel (fun _ => ?_) (fun _ => ?_))
        | with_reducible refine pcO_any (fun _ => ?_)
theorem JB_findMeant_l2' {B : Int} {n : Nat} {v1 : Int} {x0 : Int} {m : Mu} (h : JB B m) : pcO (m5_findMeant_l2 v1 n x0 m) (JB B) := JB_findMeant_l2 n x0 m h
theorem JB_findMeant {B : Int} {m : Mu} {v1 : Int} (h : JB B m) : pcO (m5_findMeant v1 m) (JB B) := by
    unfold m5_findMeant
    repeat' first
      | with_reducible exact pcO_none
      | with_reducible exact pcO_some (by assumption)
      | with_reducible exact pcO_inl (by assumption)
      | with_reducible exact pcO_inr (by assumption)
      | with_reducible exact pcO_irl (by assumption)
      | with_reducible exact pcO_irr (by assumption)
      | with_reducible exact JB_findMeant_l2' (by assumption)
      | with_reducible refine pcO_ite (fun _ => ?_) (fun _ => ?_)
      | with_reducible refine pcO_bind (JB_findMeant_l2' (by assumption)) (fun _ _ => ?_)
      | with_reducible exact JB_mast (by assumption)
      | with_reducible refine pcO_bind (JB_mast (by assumption)) (fun _ _ => ?_)
      | with_reducible refine pcO_bind (pcO_some (JB_ms (by assumption) (by decide))) (fun _ _ => ?_)
      | with_reducible refine pcO_bind (pcO_some (JB_0 (by assumption))) (fun _ _ => ?_)
      | with_reducible refine pcO_any (pcO_sel (fun _ => ?_) (fun _ => ?_))
      | with_reducible refine pcO_any (fun _ => ?_)
theorem JB_answers_b116 {B : Int} {m : Mu} {v1 : Int} {v2 : Int} {v4 : Int} {s0 : Int} {kh : Int → Int → Int → Mu → Option (Int × Mu)} (hk : ∀ (y0 : Int) (y1 : Int) (y2 : Int) (q : Mu), JB B q → pcO (kh y0 y1 y2 q) (fun r : Int × Mu => JB B r.2)) (h : JB B m) : pcO (m5_answers_b116 kh v1 v2 v4 s0 m) (fun r : Int × Mu => JB B r.2) := by
    unfold m5_answers_b116
    repeat' first
      | with_reducible exact pcO_none
      | with_reducible exact pcO_some (by assumption)
      | with_reducible exact pcO_inl (by assumption)
      | with_reducible exact pcO_inr (by assumption)
      | with_reducible exact pcO_irl (by assumption)
      | with_reducible exact pcO_irr (by assumption)
      | with_reducible exact hk _ _ _ _ (by assumption)
      | with_reducible refine pcO_ite (fun _ => ?_) (fun _ => ?_)
      | with_reducible exact JB_mast (by assumption)
      | with_reducible refine pcO_bind (JB_mast (by assumption)) (fun _ _ => ?_)
      | with_reducible refine pcO_bind (pcO_some (JB_ms (by assumption) (by decide))) (fun _ _ => ?_)
      | with_reducible refine pcO_bind (pcO_some (JB_0 (by assumption))) (fun _ _ => ?_)
      | with_reducible refine pcO_any (pcO_sel (fun _ => ?_) (fun _ => ?_))
      | with_reducible refine pcO_any (fun _ => ?_)
theorem JB_answers_b111 {B : Int} {m : Mu} {v1 : Int} {v2 : Int} {v4 : Int} {kh : Int → Int → Int → Mu → Option (Int × Mu)} (hk : ∀ (y0 : Int) (y1 : Int) (y2 : Int) (q : Mu), JB B q → pcO (kh y0 y1 y2 q) (fun r : Int × Mu => JB B r.2)) (h : JB B m) : pcO (m5_answers_b111 kh v1 v2 v4 m) (fun r : Int × Mu => JB B r.2) := by
    unfold m5_answers_b111
    repeat' first
      | with_reducible exact pcO_none
      | with_reducible exact pcO_some (by assumption)
      | with_reducible exact pcO_inl (by assumption)
      | with_reducible exact pcO_inr (by assumption)
      | with_reducible exact pcO_irl (by assumption)
      | with_reducible exact pcO_irr (by assumption)
      | with_reducible exact hk _ _ _ _ (by assumption)
      | with_reducible exact JB_answers_b116 hk (by assumption)
      | with_reducible refine pcO_ite (fun _ => ?_) (fun _ => ?_)
      | with_reducible exact JB_mast (by assumption)
      | with_reducible refine pcO_bind (JB_mast (by assumption)) (fun _ _ => ?_)
      | with_reducible refine pcO_bind (pcO_some (JB_ms (by assumption) (by decide))) (fun _ _ => ?_)
      | with_reducible refine pcO_bind (pcO_some (JB_0 (by assumption))) (fun _ _ => ?_)
      | with_reducible refine pcO_any (pcO_sel (fun _ => ?_) (fun _ => ?_))
      | with_reducible refine pcO_any (fun _ => ?_)
theorem JB_answers_b96 {B : Int} {m : Mu} {v1 : Int} {v3 : Int} {v4 : Int} {v5 : Int} {s0 : Int} {kh : Int → Int → Int → Mu → Option (Int × Mu)} (hk : ∀ (y0 : Int) (y1 : Int) (y2 : Int) (q : Mu), JB B q → pcO (kh y0 y1 y2 q) (fun r : Int × Mu => JB B r.2)) (h : JB B m) : pcO (m5_answers_b96 kh v1 v3 v4 v5 s0 m) (fun r : Int × Mu => JB B r.2) := by
    unfold m5_answers_b96
    repeat' first
      | with_reducible exact pcO_none
      | with_reducible exact pcO_some (by assumption)
      | with_reducible exact pcO_inl (by assumption)
      | with_reducible exact pcO_inr (by assumption)
      | with_reducible exact pcO_irl (by assumption)
      | with_reducible exact pcO_irr (by assumption)
      | with_reducible exact hk _ _ _ _ (by assumption)
      | with_reducible exact JB_answers_b111 hk (by assumption)
      | with_reducible exact JB_answers_b116 hk (by assumption)
      | with_reducible refine pcO_ite (fun _ => ?_) (fun _ => ?_)
      | with_reducible exact JB_mast (by assumption)
      | with_reducible refine pcO_bind (JB_mast (by assumption)) (fun _ _ => ?_)
      | with_reducible refine pcO_bind (pcO_some (JB_ms (by assumption) (by decide))) (fun _ _ => ?_)
      | with_reducible refine pcO_bind (pcO_some (JB_0 (by assumption))) (fun _ _ => ?_)
      | with_reducible refine pcO_any (pcO_sel (fun _ => ?_) (fun _ => ?_))
      | with_reducible refine pcO_any (fun _ => ?_)
theorem JB_answers_b80 {B : Int} {m : Mu} {v1 : Int} {v3 : Int} {v4 : Int} {v5 : Int} {kh : Int → Int → Int → Mu → Option (Int × Mu)} (hk : ∀ (y0 : Int) (y1 : Int) (y2 : Int) (q : Mu), JB B q → pcO (kh y0 y1 y2 q) (fun r : Int × Mu => JB B r.2)) (h : JB B m) : pcO (m5_answers_b80 kh v1 v3 v4 v5 m) (fun r : Int × Mu => JB B r.2) := by
    unfold m5_answers_b80
    repeat' first
      | with_reducible exact pcO_none
      | with_reducible exact pcO_some (by assumption)
      | with_reducible exact pcO_inl (by assumption)
      | with_reducible exact pcO_inr (by assumption)
      | with_reducible exact pcO_irl (by assumption)
      | with_reducible exact pcO_irr (by assumption)
      | with_reducible exact hk _ _ _ _ (by assumption)
      | with_reducible exact JB_answers_b96 hk (by assumption)
      | with_reducible refine pcO_ite (fun _ => ?_) (fun _ => ?_)
      | with_reducible exact JB_mast (by assumption)
      | with_reducible refine pcO_bind (JB_mast (by assumption)) (fun _ _ => ?_)
      | with_reducible refine pcO_bind (pcO_some (JB_ms (by assumption) (by decide))) (fun _ _ => ?_)
      | with_reducible refine pcO_bind (pcO_some (JB_0 (by assumption))) (fun _ _ => ?_)
      | with_reducible refine pcO_any (pcO_sel (fun _ => ?_) (fun _ => ?_))
      | with_reducible refine pcO_any (fun _ => ?_)
theorem JB_answers_l17 {B : Int} {v1 : Int} : ∀ (n : Nat) (x0 : Int) (x1 : Int) (x2 : Int) (m : Mu), JB B m → pcO (m5_answers_l17 v1 n x0 x1 x2 m) (fun r : Int × Mu => JB B r.2) := by
    intro n
    induction n with
    | zero => intro x0 x1 x2 m h; exact pcO_none
    | succ n ih =>
      intro x0 x1 x2 m h
      unfold m5_answers_l17
      repeat' first
        | with_reducible exact pcO_none
        | with_reducible exact pcO_some (by assumption)
        | with_reducible exact pcO_inl (by assumption)
        | with_reducible exact pcO_inr (by assumption)
        | with_reducible exact pcO_irl (by assumption)
        | with_reducible exact pcO_irr (by assumption)
        | with_reducible exact ih _ _ _ _ (by assumption)
        | with_reducible exact JB_isTrue (by assumption)
        | with_reducible exact JB_answers_b80 ih (by assumption)
        | with_reducible refine pcO_ite (fun _ => ?_) (fun _ => ?_)
        | with_reducible refine pcO_bind (JB_isTrue (by assumption)) (fun _ _ => ?_)
        | with_reducible exact JB_mast (by assumption)
        | with_reducible refine pcO_bind (JB_mast (by assumption)) (fun _ _ => ?_)
        | with_reducible refine pcO_bind (pcO_some (JB_ms (by assumption) (by decide))) (fun _ _ => ?_)
        | with_reducible refine pcO_bind (pcO_some (JB_0 (by assumption))) (fun _ _ => ?_)
        | with_reducible refine pcO_any (pcO_sel (fun _ => ?_) (fun _ => ?_))
        | with_reducible refine pcO_any (fun _ => ?_)
theorem JB_answers_l17' {B : Int} {n : Nat} {v1 : Int} {x0 : Int} {x1 : Int} {x2 : Int} {m : Mu} (h : JB B m) : pcO (m5_answers_l17 v1 n x0 x1 x2 m) (fun r : Int × Mu => JB B r.2) := JB_answers_l17 n x0 x1 x2 m h
theorem JB_answers {B : Int} {m : Mu} {v1 : Int} (h : JB B m) : pcO (m5_answers v1 m) (fun r : Int × Mu => JB B r.2) := by
    unfold m5_answers
    repeat' first
      | with_reducible exact pcO_none
      | with_reducible exact pcO_some (by assumption)
      | with_reducible exact pcO_inl (by assumption)
      | with_reducible exact pcO_inr (by assumption)
      | with_reducible exact pcO_irl (by assumption)
      | with_reducible exact pcO_irr (by assumption)
      | with_reducible exact JB_findMeant (by assumption)
      | with_reducible exact JB_answers_l17' (by assumption)
      | with_reducible refine pcO_ite (fun _ => ?_) (fun _ => ?_)
      | with_reducible refine pcO_bind (JB_findMeant (by assumption)) (fun _ _ => ?_)
      | with_reducible refine pcO_bind (JB_answers_l17' (by assumption)) (fun _ _ => ?_)
      | with_reducible exact JB_mast (by assumption)
      | with_reducible refine pcO_bind (JB_mast (by assumption)) (fun _ _ => ?_)
      | with_reducible refine pcO_bind (pcO_some (JB_ms (by assumption) (by decide))) (fun _ _ => ?_)
      | with_reducible refine pcO_bind (pcO_some (JB_0 (by assumption))) (fun _ _ => ?_)
      | with_reducible refine pcO_any (pcO_sel (fun _ => ?_) (fun _ => ?_))
      | with_reducible refine pcO_any (fun _ => ?_)
theorem JB_insertStart_l61 {B : Int} {v1 : Int} {v2 : Int} {v3 : Int} {v4 : Int} : ∀ (n : Nat) (x0 : Int) (m : Mu), JB B m → pcO (m5_insertStart_l61 v1 v2 v3 v4 n x0 m) (JB B) := by
    intro n
    induction n with
    | zero => intro x0 m h; exact pcO_none
    | succ n ih =>
      intro x0 m h
      unfold m5_insertStart_l61
      repeat' first
        | with_reducible exact pcO_none
        | with_reducible exact pcO_some (by assumption)
        | with_reducible exact pcO_inl (by assumption)
        | with_reducible exact pcO_inr (by assumption)
        | with_reducible exact pcO_irl (by assumption)
        | with_reducible exact pcO_irr (by assumption)
        | with_reducible exact ih _ _ (by assumption)
        | with_reducible refine pcO_ite (fun _ => ?_) (fun _ => ?_)
        | with_reducible exact JB_mast (by assumption)
        | with_reducible refine pcO_bind (JB_mast (by assumption)) (fun _ _ => ?_)
        | with_reducible refine pcO_bind (pcO_some (JB_ms (by assumption) (by decide))) (fun _ _ => ?_)
        | with_reducible refine pcO_bind (pcO_some (JB_0 (by assumption))) (fun _ _ => ?_)
        | with_reducible refine pcO_any (pcO_sel (fun _ => ?_) (fun _ => ?_))
        | with_reducible refine pcO_any (fun _ => ?_)
theorem JB_insertStart_l61' {B : Int} {n : Nat} {v1 : Int} {v2 : Int} {v3 : Int} {v4 : Int} {x0 : Int} {m : Mu} (h : JB B m) : pcO (m5_insertStart_l61 v1 v2 v3 v4 n x0 m) (JB B) := JB_insertStart_l61 n x0 m h
theorem JB_insertStart_b58 {B : Int} {m : Mu} {v1 : Int} {v2 : Int} {v3 : Int} {v4 : Int} (h : JB B m) : pcO (m5_insertStart_b58 v1 v2 v3 v4 m) (fun r : Int × Mu => JB B r.2) := by
    unfold m5_insertStart_b58
    repeat' first
      | with_reducible exact pcO_none
      | with_reducible exact pcO_some (by assumption)
      | with_reducible exact pcO_inl (by assumption)
      | with_reducible exact pcO_inr (by assumption)
      | with_reducible exact pcO_irl (by assumption)
      | with_reducible exact pcO_irr (by assumption)
      | with_reducible exact JB_insertStart_l61' (by assumption)
      | with_reducible refine pcO_ite (fun _ => ?_) (fun _ => ?_)
      | with_reducible refine pcO_bind (JB_insertStart_l61' (by assumption)) (fun _ _ => ?_)
      | with_reducible exact JB_mast (by assumption)
      | with_reducible refine pcO_bind (JB_mast (by assumption)) (fun _ _ => ?_)
      | with_reducible refine pcO_bind (pcO_some (JB_ms (by assumption) (by decide))) (fun _ _ => ?_)
      | with_reducible refine pcO_bind (pcO_some (JB_0 (by assumption))) (fun _ _ => ?_)
      | with_reducible refine pcO_any (pcO_sel (fun _ => ?_) (fun _ => ?_))
      | with_reducible refine pcO_any (fun _ => ?_)
theorem JB_insertStart_b33 {B : Int} {m : Mu} {v1 : Int} {v2 : Int} {v3 : Int} {v4 : Int} (h : JB B m) : pcO (m5_insertStart_b33 v1 v2 v3 v4 m) (fun r : Int × Mu => JB B r.2) := by
    unfold m5_insertStart_b33
    repeat' first
      | with_reducible exact pcO_none
      | with_reducible exact pcO_some (by assumption)
      | with_reducible exact pcO_inl (by assumption)
      | with_reducible exact pcO_inr (by assumption)
      | with_reducible exact pcO_irl (by assumption)
      | with_reducible exact pcO_irr (by assumption)
      | with_reducible exact JB_insertStart_b58 (by assumption)
      | with_reducible refine pcO_ite (fun _ => ?_) (fun _ => ?_)
      | with_reducible refine pcO_bind (JB_insertStart_b58 (by assumption)) (fun _ _ => ?_)
      | with_reducible exact JB_mast (by assumption)
      | with_reducible refine pcO_bind (JB_mast (by assumption)) (fun _ _ => ?_)
      | with_reducible refine pcO_bind (pcO_some (JB_ms (by assumption) (by decide))) (fun _ _ => ?_)
      | with_reducible refine pcO_bind (pcO_some (JB_0 (by assumption))) (fun _ _ => ?_)
      | with_reducible refine pcO_any (pcO_sel (fun _ => ?_) (fun _ => ?_))
      | with_reducible refine pcO_any (fun _ => ?_)
theorem JB_insertStart {B : Int} {m : Mu} {v1 : Int} {v2 : Int} {v3 : Int} (h : JB B m) : pcO (m5_insertStart v1 v2 v3 m) (fun r : Int × Mu => JB B r.2) := by
    unfold m5_insertStart
    repeat' first
      | with_reducible exact pcO_none
      | with_reducible exact pcO_some (by assumption)
      | with_reducible exact pcO_inl (by assumption)
      | with_reducible exact pcO_inr (by assumption)
      | with_reducible exact pcO_irl (by assumption)
      | with_reducible exact pcO_irr (by assumption)
      | with_reducible exact JB_insertStart_b33 (by assumption)
      | with_reducible refine pcO_ite (fun _ => ?_) (fun _ => ?_)
      | with_reducible refine pcO_bind (JB_insertStart_b33 (by assumption)) (fun _ _ => ?_)
      | with_reducible exact JB_mast (by assumption)
      | with_reducible refine pcO_bind (JB_mast (by assumption)) (fun _ _ => ?_)
      | with_reducible refine pcO_bind (pcO_some (JB_ms (by assumption) (by decide))) (fun _ _ => ?_)
      | with_reducible refine pcO_bind (pcO_some (JB_0 (by assumption))) (fun _ _ => ?_)
      | with_reducible refine pcO_any (pcO_sel (fun _ => ?_) (fun _ => ?_))
      | with_reducible refine pcO_any (fun _ => ?_)
theorem JB_findStarts_l126 {B : Int} {v1 : Int} {v2 : Int} {v3 : Int} {v5 : Int} {v6 : Int} : ∀ (n : Nat) (x0 : Int) (x1 : Int) (m : Mu), JB B m → pcO (m5_findStarts_l126 v1 v2 v3 v5 v6 n x0 x1 m) (fun r : Int × Mu => JB B r.2) := by
    intro n
    induction n with
    | zero => intro x0 x1 m h; exact pcO_none
    | succ n ih =>
      intro x0 x1 m h
      unfold m5_findStarts_l126
      repeat' first
        | with_reducible exact pcO_none
        | with_reducible exact pcO_some (by assumption)
        | with_reducible exact pcO_inl (by assumption)
        | with_reducible exact pcO_inr (by assumption)
        | with_reducible exact pcO_irl (by assumption)
        | with_reducible exact pcO_irr (by assumption)
        | with_reducible exact ih _ _ _ (by assumption)
        | with_reducible exact JB_insertStart (by assumption)
        | with_reducible refine pcO_ite (fun _ => ?_) (fun _ => ?_)
        | with_reducible refine pcO_bind (JB_insertStart (by assumption)) (fun _ _ => ?_)
        | with_reducible exact JB_mast (by assumption)
        | with_reducible refine pcO_bind (JB_mast (by assumption)) (fun _ _ => ?_)
        | with_reducible refine pcO_bind (pcO_some (JB_ms (by assumption) (by decide))) (fun _ _ => ?_)
        | with_reducible refine pcO_bind (pcO_some (JB_0 (by assumption))) (fun _ _ => ?_)
        | with_reducible refine pcO_any (pcO_sel (fun _ => ?_) (fun _ => ?_))
        | with_reducible refine pcO_any (fun _ => ?_)
theorem JB_findStarts_l126' {B : Int} {n : Nat} {v1 : Int} {v2 : Int} {v3 : Int} {v5 : Int} {v6 : Int} {x0 : Int} {x1 : Int} {m : Mu} (h : JB B m) : pcO (m5_findStarts_l126 v1 v2 v3 v5 v6 n x0 x1 m) (fun r : Int × Mu => JB B r.2) := JB_findStarts_l126 n x0 x1 m h
theorem JB_findStarts_l78 {B : Int} {v1 : Int} {v2 : Int} {v3 : Int} : ∀ (n : Nat) (x0 : Int) (x1 : Int) (m : Mu), JB B m → pcO (m5_findStarts_l78 v1 v2 v3 n x0 x1 m) (fun r : Int × Mu => JB B r.2) := by
    intro n
    induction n with
    | zero => intro x0 x1 m h; exact pcO_none
    | succ n ih =>
      intro x0 x1 m h
      unfold m5_findStarts_l78
      repeat' first
        | with_reducible exact pcO_none
        | with_reducible exact pcO_some (by assumption)
        | with_reducible exact pcO_inl (by assumption)
        | with_reducible exact pcO_inr (by assumption)
        | with_reducible exact pcO_irl (by assumption)
        | with_reducible exact pcO_irr (by assumption)
        | with_reducible exact ih _ _ _ (by assumption)
        | with_reducible exact JB_findStarts_l126' (by assumption)
        | with_reducible refine pcO_ite (fun _ => ?_) (fun _ => ?_)
        | with_reducible refine pcO_bind (JB_findStarts_l126' (by assumption)) (fun _ _ => ?_)
        | with_reducible exact JB_mast (by assumption)
        | with_reducible refine pcO_bind (JB_mast (by assumption)) (fun _ _ => ?_)
        | with_reducible refine pcO_bind (pcO_some (JB_ms (by assumption) (by decide))) (fun _ _ => ?_)
        | with_reducible refine pcO_bind (pcO_some (JB_0 (by assumption))) (fun _ _ => ?_)
        | with_reducible refine pcO_any (pcO_sel (fun _ => ?_) (fun _ => ?_))
        | with_reducible refine pcO_any (fun _ => ?_)
theorem JB_findStarts_l78' {B : Int} {n : Nat} {v1 : Int} {v2 : Int} {v3 : Int} {x0 : Int} {x1 : Int} {m : Mu} (h : JB B m) : pcO (m5_findStarts_l78 v1 v2 v3 n x0 x1 m) (fun r : Int × Mu => JB B r.2) := JB_findStarts_l78 n x0 x1 m h
theorem JB_findStarts_l23 {B : Int} {v3 : Int} : ∀ (n : Nat) (x0 : Int) (x1 : Int) (m : Mu), JB B m → pcO (m5_findStarts_l23 v3 n x0 x1 m) (fun r : Int × Mu => JB B r.2) := by
    intro n
    induction n with
    | zero => intro x0 x1 m h; exact pcO_none
    | succ n ih =>
      intro x0 x1 m h
      unfold m5_findStarts_l23
      repeat' first
        | with_reducible exact pcO_none
        | with_reducible exact pcO_some (by assumption)
        | with_reducible exact pcO_inl (by assumption)
        | with_reducible exact pcO_inr (by assumption)
        | with_reducible exact pcO_irl (by assumption)
        | with_reducible exact pcO_irr (by assumption)
        | with_reducible exact ih _ _ _ (by assumption)
        | with_reducible exact JB_insertStart (by assumption)
        | with_reducible refine pcO_ite (fun _ => ?_) (fun _ => ?_)
        | with_reducible refine pcO_bind (JB_insertStart (by assumption)) (fun _ _ => ?_)
        | with_reducible exact JB_mast (by assumption)
        | with_reducible refine pcO_bind (JB_mast (by assumption)) (fun _ _ => ?_)
        | with_reducible refine pcO_bind (pcO_some (JB_ms (by assumption) (by decide))) (fun _ _ => ?_)
        | with_reducible refine pcO_bind (pcO_some (JB_0 (by assumption))) (fun _ _ => ?_)
        | with_reducible refine pcO_any (pcO_sel (fun _ => ?_) (fun _ => ?_))
        | with_reducible refine pcO_any (fun _ => ?_)
theorem JB_findStarts_l23' {B : Int} {n : Nat} {v3 : Int} {x0 : Int} {x1 : Int} {m : Mu} (h : JB B m) : pcO (m5_findStarts_l23 v3 n x0 x1 m) (fun r : Int × Mu => JB B r.2) := JB_findStarts_l23 n x0 x1 m h
theorem JB_findStarts {B : Int} {m : Mu} {v1 : Int} {v2 : Int} (h : JB B m) : pcO (m5_findStarts v1 v2 m) (JB B) := by
    unfold m5_findStarts
    repeat' first
      | with_reducible exact pcO_none
      | with_reducible exact pcO_some (by assumption)
      | with_reducible exact pcO_inl (by assumption)
      | with_reducible exact pcO_inr (by assumption)
      | with_reducible exact pcO_irl (by assumption)
      | with_reducible exact pcO_irr (by assumption)
      | with_reducible exact JB_insertStart (by assumption)
      | with_reducible exact JB_findStarts_l78' (by assumption)
      | with_reducible exact JB_findStarts_l23' (by assumption)
      | with_reducible refine pcO_ite (fun _ => ?_) (fun _ => ?_)
      | with_reducible refine pcO_bind (JB_insertStart (by assumption)) (fun _ _ => ?_)
      | with_reducible refine pcO_bind (JB_findStarts_l78' (by assumption)) (fun _ _ => ?_)
      | with_reducible refine pcO_bind (JB_findStarts_l23' (by assumption)) (fun _ _ => ?_)
      | with_reducible exact JB_mast (by assumption)
      | with_reducible refine pcO_bind (JB_mast (by assumption)) (fun _ _ => ?_)
      | with_reducible refine pcO_bind (pcO_some (JB_ms (by assumption) (by decide))) (fun _ _ => ?_)
      | with_reducible refine pcO_bind (pcO_some (JB_0 (by assumption))) (fun _ _ => ?_)
      | with_reducible refine pcO_any (pcO_sel (fun _ => ?_) (fun _ => ?_))
      | with_reducible refine pcO_any (fun _ => ?_)
theorem JB_wrong {B : Int} {m : Mu} {v1 : Int} (h : JB B m) : pcO (m5_wrong v1 m) (JB B) := by
    unfold m5_wrong
    repeat' first
      | with_reducible exact pcO_none
      | with_reducible exact pcO_some (by assumption)
      | with_reducible exact pcO_inl (by assumption)
      | with_reducible exact pcO_inr (by assumption)
      | with_reducible exact pcO_irl (by assumption)
      | with_reducible exact pcO_irr (by assumption)
      | with_reducible refine pcO_ite (fun _ => ?_) (fun _ => ?_)
      | with_reducible exact JB_mast (by assumption)
      | with_reducible refine pcO_bind (JB_mast (by assumption)) (fun _ _ => ?_)
      | with_reducible refine pcO_bind (pcO_some (JB_ms (by assumption) (by decide))) (fun _ _ => ?_)
      | with_reducible refine pcO_bind (pcO_some (JB_0 (by assumption))) (fun _ _ => ?_)
      | with_reducible refine pcO_any (pcO_sel (fun _ => ?_) (fun _ => ?_))
      | with_reducible refine pcO_any (fun _ => ?_)
theorem JB_finish_l5 {B : Int} {v1 : Int} : ∀ (n : Nat) (x0 : Int) (x1 : Int) (m : Mu), JB B m → pcO (m5_finish_l5 v1 n x0 x1 m) (fun r : Int × Mu => JB B r.2) := by
    intro n
    induction n with
    | zero => intro x0 x1 m h; exact pcO_none
    | succ n ih =>
      intro x0 x1 m h
      unfold m5_finish_l5
      repeat' first
        | with_reducible exact pcO_none
        | with_reducible exact pcO_some (by assumption)
        | with_reducible exact pcO_inl (by assumption)
        | with_reducible exact pcO_inr (by assumption)
        | with_reducible exact pcO_irl (by assumption)
        | with_reducible exact pcO_irr (by assumption)
        | with_reducible exact ih _ _ _ (by assumption)
        | with_reducible exact JB_findStarts (by assumption)
        | with_reducible refine pcO_ite (fun _ => ?_) (fun _ => ?_)
        | with_reducible refine pcO_bind (JB_findStarts (by assumption)) (fun _ _ => ?_)
        | with_reducible exact JB_mast (by assumption)
        | with_reducible refine pcO_bind (JB_mast (by assumption)) (fun _ _ => ?_)
        | with_reducible refine pcO_bind (pcO_some (JB_ms (by assumption) (by decide))) (fun _ _ => ?_)
        | with_reducible refine pcO_bind (pcO_some (JB_0 (by assumption))) (fun _ _ => ?_)
        | with_reducible refine pcO_any (pcO_sel (fun _ => ?_) (fun _ => ?_))
        | with_reducible refine pcO_any (fun _ => ?_)
theorem JB_finish_l5' {B : Int} {n : Nat} {v1 : Int} {x0 : Int} {x1 : Int} {m : Mu} (h : JB B m) : pcO (m5_finish_l5 v1 n x0 x1 m) (fun r : Int × Mu => JB B r.2) := JB_finish_l5 n x0 x1 m h
theorem JB_finish_l108 {B : Int} {v1 : Int} {v4 : Int} : ∀ (n : Nat) (x0 : Int) (x1 : Int) (m : Mu), JB B m → pcO (m5_finish_l108 v1 v4 n x0 x1 m) (JB B) := by
    intro n
    induction n with
    | zero => intro x0 x1 m h; exact pcO_none
    | succ n ih =>
      intro x0 x1 m h
      unfold m5_finish_l108
      repeat' first
        | with_reducible exact pcO_none
        | with_reducible exact pcO_some (by assumption)
        | with_reducible exact pcO_inl (by assumption)
        | with_reducible exact pcO_inr (by assumption)
        | with_reducible exact pcO_irl (by assumption)
        | with_reducible exact pcO_irr (by assumption)
        | with_reducible exact ih _ _ _ (by assumption)
        | with_reducible refine pcO_ite (fun _ => ?_) (fun _ => ?_)
        | with_reducible exact JB_mast (by assumption)
        | with_reducible refine pcO_bind (JB_mast (by assumption)) (fun _ _ => ?_)
        | with_reducible refine pcO_bind (pcO_some (JB_ms (by assumption) (by decide))) (fun _ _ => ?_)
        | with_reducible refine pcO_bind (pcO_some (JB_0 (by assumption))) (fun _ _ => ?_)
        | with_reducible refine pcO_any (pcO_sel (fun _ => ?_) (fun _ => ?_))
        | with_reducible refine pcO_any (fun _ => ?_)
theorem JB_finish_l108' {B : Int} {n : Nat} {v1 : Int} {v4 : Int} {x0 : Int} {x1 : Int} {m : Mu} (h : JB B m) : pcO (m5_finish_l108 v1 v4 n x0 x1 m) (JB B) := JB_finish_l108 n x0 x1 m h
theorem JB_finish_l83 {B : Int} {v1 : Int} : ∀ (n : Nat) (x0 : Int) (m : Mu), JB B m → pcO (m5_finish_l83 v1 n x0 m) (JB B) := by
    intro n
    induction n with
    | zero => intro x0 m h; exact pcO_none
    | succ n ih =>
      intro x0 m h
      unfold m5_finish_l83
      repeat' first
        | with_reducible exact pcO_none
        | with_reducible exact pcO_some (by assumption)
        | with_reducible exact pcO_inl (by assumption)
        | with_reducible exact pcO_inr (by assumption)
        | with_reducible exact pcO_irl (by assumption)
        | with_reducible exact pcO_irr (by assumption)
        | with_reducible exact ih _ _ (by assumption)
        | with_reducible exact JB_finish_l108' (by assumption)
        | with_reducible exact JB_answers (by assumption)
        | with_reducible refine pcO_ite (fun _ => ?_) (fun _ => ?_)
        | with_reducible refine pcO_bind (JB_finish_l108' (by assumption)) (fun _ _ => ?_)
        | with_reducible refine pcO_bind (JB_answers (by assumption)) (fun _ _ => ?_)
        | with_reducible exact JB_mast (by assumption)
        | with_reducible refine pcO_bind (JB_mast (by assumption)) (fun _ _ => ?_)
        | with_reducible refine pcO_bind (pcO_some (JB_ms (by assumption) (by decide))) (fun _ _ => ?_)
        | with_reducible refine pcO_bind (pcO_some (JB_0 (by assumption))) (fun _ _ => ?_)
        | with_reducible refine pcO_any (pcO_sel (fun _ => ?_) (fun _ => ?_))
        | with_reducible refine pcO_any (fun _ => ?_)
theorem JB_finish_l83' {B : Int} {n : Nat} {v1 : Int} {x0 : Int} {m : Mu} (h : JB B m) : pcO (m5_finish_l83 v1 n x0 m) (JB B) := JB_finish_l83 n x0 m h
theorem JB_finish {B : Int} {m : Mu} {v1 : Int} (h : JB B m) : pcO (m5_finish v1 m) (JB B) := by
    unfold m5_finish
    repeat' first
      | with_reducible exact pcO_none
      | with_reducible exact pcO_some (by assumption)
      | with_reducible exact pcO_inl (by assumption)
      | with_reducible exact pcO_inr (by assumption)
      | with_reducible exact pcO_irl (by assumption)
      | with_reducible exact pcO_irr (by assumption)
      | with_reducible exact JB_finish_l5' (by assumption)
      | with_reducible exact JB_finish_l83' (by assumption)
      | with_reducible exact JB_wrong (by assumption)
      | with_reducible refine pcO_ite (fun _ => ?_) (fun _ => ?_)
      | with_reducible refine pcO_bind (JB_finish_l5' (by assumption)) (fun _ _ => ?_)
      | with_reducible refine pcO_bind (JB_finish_l83' (by assumption)) (fun _ _ => ?_)
      | with_reducible refine pcO_bind (JB_wrong (by assumption)) (fun _ _ => ?_)
      | with_reducible exact JB_mast (by assumption)
      | with_reducible refine pcO_bind (JB_mast (by assumption)) (fun _ _ => ?_)
      | with_reducible refine pcO_bind (pcO_some (JB_ms (by assumption) (by decide))) (fun _ _ => ?_)
      | with_reducible refine pcO_bind (pcO_some (JB_0 (by assumption))) (fun _ _ => ?_)
      | with_reducible refine pcO_any (pcO_sel (fun _ => ?_) (fun _ => ?_))
      | with_reducible refine pcO_any (fun _ => ?_)
theorem JB_cannot_b14 {B : Int} {m : Mu} {s1 : Int} (h : JB B m) : pcO (m5_cannot_b14 s1 m) (JB B) := by
    unfold m5_cannot_b14
    repeat' first
      | with_reducible exact pcO_none
      | with_reducible exact pcO_some (by assumption)
      | with_reducible exact pcO_inl (by assumption)
      | with_reducible exact pcO_inr (by assumption)
      | with_reducible exact pcO_irl (by assumption)
      | with_reducible exact pcO_irr (by assumption)
      | with_reducible exact JB_wrong (by assumption)
      | with_reducible refine pcO_ite (fun _ => ?_) (fun _ => ?_)
      | with_reducible refine pcO_bind (JB_wrong (by assumption)) (fun _ _ => ?_)
      | with_reducible exact JB_mast (by assumption)
      | with_reducible refine pcO_bind (JB_mast (by assumption)) (fun _ _ => ?_)
      | with_reducible refine pcO_bind (pcO_some (JB_ms (by assumption) (by decide))) (fun _ _ => ?_)
      | with_reducible refine pcO_bind (pcO_some (JB_0 (by assumption))) (fun _ _ => ?_)
      | with_reducible refine pcO_any (pcO_sel (fun _ => ?_) (fun _ => ?_))
      | with_reducible refine pcO_any (fun _ => ?_)
theorem JB_cannot {B : Int} {m : Mu} (h : JB B m) : pcO (m5_cannot m) (JB B) := by
    unfold m5_cannot
    repeat' first
      | with_reducible exact pcO_none
      | with_reducible exact pcO_some (by assumption)
      | with_reducible exact pcO_inl (by assumption)
      | with_reducible exact pcO_inr (by assumption)
      | with_reducible exact pcO_irl (by assumption)
      | with_reducible exact pcO_irr (by assumption)
      | with_reducible exact JB_cannot_b14 (by assumption)
      | with_reducible refine pcO_ite (fun _ => ?_) (fun _ => ?_)
      | with_reducible refine pcO_bind (JB_cannot_b14 (by assumption)) (fun _ _ => ?_)
      | with_reducible exact JB_mast (by assumption)
      | with_reducible refine pcO_bind (JB_mast (by assumption)) (fun _ _ => ?_)
      | with_reducible refine pcO_bind (pcO_some (JB_ms (by assumption) (by decide))) (fun _ _ => ?_)
      | with_reducible refine pcO_bind (pcO_some (JB_0 (by assumption))) (fun _ _ => ?_)
      | with_reducible refine pcO_any (pcO_sel (fun _ => ?_) (fun _ => ?_))
      | with_reducible refine pcO_any (fun _ => ?_)
theorem JB_countNode {B : Int} {m : Mu} (h : JB B m) : pcO (m5_countNode m) (JB B) := by
    unfold m5_countNode
    repeat' first
      | with_reducible exact pcO_none
      | with_reducible exact pcO_some (by assumption)
      | with_reducible exact pcO_inl (by assumption)
      | with_reducible exact pcO_inr (by assumption)
      | with_reducible exact pcO_irl (by assumption)
      | with_reducible exact pcO_irr (by assumption)
      | with_reducible exact JB_wrong (by assumption)
      | with_reducible refine pcO_ite (fun _ => ?_) (fun _ => ?_)
      | with_reducible refine pcO_bind (JB_wrong (by assumption)) (fun _ _ => ?_)
      | with_reducible exact JB_mast (by assumption)
      | with_reducible refine pcO_bind (JB_mast (by assumption)) (fun _ _ => ?_)
      | with_reducible refine pcO_bind (pcO_some (JB_ms (by assumption) (by decide))) (fun _ _ => ?_)
      | with_reducible refine pcO_bind (pcO_some (JB_0 (by assumption))) (fun _ _ => ?_)
      | with_reducible refine pcO_any (pcO_sel (fun _ => ?_) (fun _ => ?_))
      | with_reducible refine pcO_any (fun _ => ?_)
theorem JB_deeper_b15 {B : Int} {m : Mu} {v1 : Int} (h : JB B m) : pcO (m5_deeper_b15 v1 m) (JB B) := by
    unfold m5_deeper_b15
    repeat' first
      | with_reducible exact pcO_none
      | with_reducible exact pcO_some (by assumption)
      | with_reducible exact pcO_inl (by assumption)
      | with_reducible exact pcO_inr (by assumption)
      | with_reducible exact pcO_irl (by assumption)
      | with_reducible exact pcO_irr (by assumption)
      | with_reducible refine pcO_ite (fun _ => ?_) (fun _ => ?_)
      | with_reducible exact JB_mast (by assumption)
      | with_reducible refine pcO_bind (JB_mast (by assumption)) (fun _ _ => ?_)
      | with_reducible refine pcO_bind (pcO_some (JB_ms (by assumption) (by decide))) (fun _ _ => ?_)
      | with_reducible refine pcO_bind (pcO_some (JB_0 (by assumption))) (fun _ _ => ?_)
      | with_reducible refine pcO_any (pcO_sel (fun _ => ?_) (fun _ => ?_))
      | with_reducible refine pcO_any (fun _ => ?_)
theorem JB_deeper {B : Int} {m : Mu} {v1 : Int} (h : JB B m) : pcO (m5_deeper v1 m) (JB B) := by
    unfold m5_deeper
    repeat' first
      | with_reducible exact pcO_none
      | with_reducible exact pcO_some (by assumption)
      | with_reducible exact pcO_inl (by assumption)
      | with_reducible exact pcO_inr (by assumption)
      | with_reducible exact pcO_irl (by assumption)
      | with_reducible exact pcO_irr (by assumption)
      | with_reducible exact JB_deeper_b15 (by assumption)
      | with_reducible exact JB_wrong (by assumption)
      | with_reducible refine pcO_ite (fun _ => ?_) (fun _ => ?_)
      | with_reducible refine pcO_bind (JB_deeper_b15 (by assumption)) (fun _ _ => ?_)
      | with_reducible refine pcO_bind (JB_wrong (by assumption)) (fun _ _ => ?_)
      | with_reducible exact JB_mast (by assumption)
      | with_reducible refine pcO_bind (JB_mast (by assumption)) (fun _ _ => ?_)
      | with_reducible refine pcO_bind (pcO_some (JB_ms (by assumption) (by decide))) (fun _ _ => ?_)
      | with_reducible refine pcO_bind (pcO_some (JB_0 (by assumption))) (fun _ _ => ?_)
      | with_reducible refine pcO_any (pcO_sel (fun _ => ?_) (fun _ => ?_))
      | with_reducible refine pcO_any (fun _ => ?_)
theorem JB_emit {B : Int} {m : Mu} {v1 : Int} (h : JB B m) : pcO (m5_emit v1 m) (JB B) := by
    unfold m5_emit
    repeat' first
      | with_reducible exact pcO_none
      | with_reducible exact pcO_some (by assumption)
      | with_reducible exact pcO_inl (by assumption)
      | with_reducible exact pcO_inr (by assumption)
      | with_reducible exact pcO_irl (by assumption)
      | with_reducible exact pcO_irr (by assumption)
      | with_reducible refine pcO_ite (fun _ => ?_) (fun _ => ?_)
      | with_reducible exact JB_mast (by assumption)
      | with_reducible refine pcO_bind (JB_mast (by assumption)) (fun _ _ => ?_)
      | with_reducible refine pcO_bind (pcO_some (JB_ms (by assumption) (by decide))) (fun _ _ => ?_)
      | with_reducible refine pcO_bind (pcO_some (JB_0 (by assumption))) (fun _ _ => ?_)
      | with_reducible refine pcO_any (pcO_sel (fun _ => ?_) (fun _ => ?_))
      | with_reducible refine pcO_any (fun _ => ?_)
theorem JB_endPart_l0 {B : Int} : ∀ (n : Nat) (m : Mu), JB B m → pcO (m5_endPart_l0  n  m) (JB B) := by
    intro n
    induction n with
    | zero => intro  m h; exact pcO_none
    | succ n ih =>
      intro  m h
      unfold m5_endPart_l0
      repeat' first
        | with_reducible exact pcO_none
        | with_reducible exact pcO_some (by assumption)
        | with_reducible exact pcO_inl (by assumption)
        | with_reducible exact pcO_inr (by assumption)
        | with_reducible exact pcO_irl (by assumption)
        | with_reducible exact pcO_irr (by assumption)
        | with_reducible exact ih _ (by assumption)
        | with_reducible exact JB_emit (by assumption)
        | with_reducible refine pcO_ite (fun _ => ?_) (fun _ => ?_)
        | with_reducible refine pcO_bind (JB_emit (by assumption)) (fun _ _ => ?_)
        | with_reducible exact JB_mast (by assumption)
        | with_reducible refine pcO_bind (JB_mast (by assumption)) (fun _ _ => ?_)
        | with_reducible refine pcO_bind (pcO_some (JB_ms (by assumption) (by decide))) (fun _ _ => ?_)
        | with_reducible refine pcO_bind (pcO_some (JB_0 (by assumption))) (fun _ _ => ?_)
        | with_reducible refine pcO_any (pcO_sel (fun _ => ?_) (fun _ => ?_))
        | with_reducible refine pcO_any (fun _ => ?_)
theorem JB_endPart_l0' {B : Int} {n : Nat} {m : Mu} (h : JB B m) : pcO (m5_endPart_l0  n  m) (JB B) := JB_endPart_l0 n  m h
theorem JB_endPart {B : Int} {m : Mu} (h : JB B m) : pcO (m5_endPart m) (JB B) := by
    unfold m5_endPart
    repeat' first
      | with_reducible exact pcO_none
      | with_reducible exact pcO_some (by assumption)
      | with_reducible exact pcO_inl (by assumption)
      | with_reducible exact pcO_inr (by assumption)
      | with_reducible exact pcO_irl (by assumption)
      | with_reducible exact pcO_irr (by assumption)
      | with_reducible exact JB_endPart_l0' (by assumption)
      | with_reducible refine pcO_ite (fun _ => ?_) (fun _ => ?_)
      | with_reducible refine pcO_bind (JB_endPart_l0' (by assumption)) (fun _ _ => ?_)
      | with_reducible exact JB_mast (by assumption)
      | with_reducible refine pcO_bind (JB_mast (by assumption)) (fun _ _ => ?_)
      | with_reducible refine pcO_bind (pcO_some (JB_ms (by assumption) (by decide))) (fun _ _ => ?_)
      | with_reducible refine pcO_bind (pcO_some (JB_0 (by assumption))) (fun _ _ => ?_)
      | with_reducible refine pcO_any (pcO_sel (fun _ => ?_) (fun _ => ?_))
      | with_reducible refine pcO_any (fun _ => ?_)
theorem JB_part_b195 {B : Int} {m : Mu} (h : JB B m) : pcO (m5_part_b195 m) (JB B) := by
    unfold m5_part_b195
    repeat' first
      | with_reducible exact pcO_none
      | with_reducible exact pcO_some (by assumption)
      | with_reducible exact pcO_inl (by assumption)
      | with_reducible exact pcO_inr (by assumption)
      | with_reducible exact pcO_irl (by assumption)
      | with_reducible exact pcO_irr (by assumption)
      | with_reducible exact JB_cannot (by assumption)
      | with_reducible refine pcO_ite (fun _ => ?_) (fun _ => ?_)
      | with_reducible refine pcO_bind (JB_cannot (by assumption)) (fun _ _ => ?_)
      | with_reducible exact JB_mast (by assumption)
      | with_reducible refine pcO_bind (JB_mast (by assumption)) (fun _ _ => ?_)
      | with_reducible refine pcO_bind (pcO_some (JB_ms (by assumption) (by decide))) (fun _ _ => ?_)
      | with_reducible refine pcO_bind (pcO_some (JB_0 (by assumption))) (fun _ _ => ?_)
      | with_reducible refine pcO_any (pcO_sel (fun _ => ?_) (fun _ => ?_))
      | with_reducible refine pcO_any (fun _ => ?_)
theorem JB_part_b280 {B : Int} {m : Mu} {s0 : Int} (h : JB B m) : pcO (m5_part_b280 s0 m) (JB B) := by
    unfold m5_part_b280
    repeat' first
      | with_reducible exact pcO_none
      | with_reducible exact pcO_some (by assumption)
      | with_reducible exact pcO_inl (by assumption)
      | with_reducible exact pcO_inr (by assumption)
      | with_reducible exact pcO_irl (by assumption)
      | with_reducible exact pcO_irr (by assumption)
      | with_reducible exact JB_emit (by assumption)
      | with_reducible exact JB_next (by assumption)
      | with_reducible exact JB_wrong (by assumption)
      | with_reducible refine pcO_ite (fun _ => ?_) (fun _ => ?_)
      | with_reducible refine pcO_bind (JB_emit (by assumption)) (fun _ _ => ?_)
      | with_reducible refine pcO_bind (JB_next (by assumption)) (fun _ _ => ?_)
      | with_reducible refine pcO_bind (JB_wrong (by assumption)) (fun _ _ => ?_)
      | with_reducible exact JB_mast (by assumption)
      | with_reducible refine pcO_bind (JB_mast (by assumption)) (fun _ _ => ?_)
      | with_reducible refine pcO_bind (pcO_some (JB_ms (by assumption) (by decide))) (fun _ _ => ?_)
      | with_reducible refine pcO_bind (pcO_some (JB_0 (by assumption))) (fun _ _ => ?_)
      | with_reducible refine pcO_any (pcO_sel (fun _ => ?_) (fun _ => ?_))
      | with_reducible refine pcO_any (fun _ => ?_)
theorem JB_part_b243 {B : Int} {m : Mu} {v1 : Int} {v3 : Int} {s0 : Int} {s1 : Int} (h : JB B m) : pcO (m5_part_b243 v1 v3 s0 s1 m) (JB B) := by
    unfold m5_part_b243
    repeat' first
      | with_reducible exact pcO_none
      | with_reducible exact pcO_some (by assumption)
      | with_reducible exact pcO_inl (by assumption)
      | with_reducible exact pcO_inr (by assumption)
      | with_reducible exact pcO_irl (by assumption)
      | with_reducible exact pcO_irr (by assumption)
      | with_reducible exact JB_part_b280 (by assumption)
      | with_reducible exact JB_cannot (by assumption)
      | with_reducible refine pcO_ite (fun _ => ?_) (fun _ => ?_)
      | with_reducible refine pcO_bind (JB_part_b280 (by assumption)) (fun _ _ => ?_)
      | with_reducible refine pcO_bind (JB_cannot (by assumption)) (fun _ _ => ?_)
      | with_reducible exact JB_mast (by assumption)
      | with_reducible refine pcO_bind (JB_mast (by assumption)) (fun _ _ => ?_)
      | with_reducible refine pcO_bind (pcO_some (JB_ms (by assumption) (by decide))) (fun _ _ => ?_)
      | with_reducible refine pcO_bind (pcO_some (JB_0 (by assumption))) (fun _ _ => ?_)
      | with_reducible refine pcO_any (pcO_sel (fun _ => ?_) (fun _ => ?_))
      | with_reducible refine pcO_any (fun _ => ?_)
theorem JB_part_b200 {B : Int} {m : Mu} {v1 : Int} {v3 : Int} (h : JB B m) : pcO (m5_part_b200 v1 v3 m) (JB B) := by
    unfold m5_part_b200
    repeat' first
      | with_reducible exact pcO_none
      | with_reducible exact pcO_some (by assumption)
      | with_reducible exact pcO_inl (by assumption)
      | with_reducible exact pcO_inr (by assumption)
      | with_reducible exact pcO_irl (by assumption)
      | with_reducible exact pcO_irr (by assumption)
      | with_reducible exact JB_next (by assumption)
      | with_reducible exact JB_part_b243 (by assumption)
      | with_reducible refine pcO_ite (fun _ => ?_) (fun _ => ?_)
      | with_reducible refine pcO_bind (JB_next (by assumption)) (fun _ _ => ?_)
      | with_reducible refine pcO_bind (JB_part_b243 (by assumption)) (fun _ _ => ?_)
      | with_reducible exact JB_mast (by assumption)
      | with_reducible refine pcO_bind (JB_mast (by assumption)) (fun _ _ => ?_)
      | with_reducible refine pcO_bind (pcO_some (JB_ms (by assumption) (by decide))) (fun _ _ => ?_)
      | with_reducible refine pcO_bind (pcO_some (JB_0 (by assumption))) (fun _ _ => ?_)
      | with_reducible refine pcO_any (pcO_sel (fun _ => ?_) (fun _ => ?_))
      | with_reducible refine pcO_any (fun _ => ?_)
theorem JB_part_b166 {B : Int} {m : Mu} {s1 : Int} (h : JB B m) : pcO (m5_part_b166 s1 m) (JB B) := by
    unfold m5_part_b166
    repeat' first
      | with_reducible exact pcO_none
      | with_reducible exact pcO_some (by assumption)
      | with_reducible exact pcO_inl (by assumption)
      | with_reducible exact pcO_inr (by assumption)
      | with_reducible exact pcO_irl (by assumption)
      | with_reducible exact pcO_irr (by assumption)
      | with_reducible exact JB_emit (by assumption)
      | with_reducible refine pcO_ite (fun _ => ?_) (fun _ => ?_)
      | with_reducible refine pcO_bind (JB_emit (by assumption)) (fun _ _ => ?_)
      | with_reducible exact JB_mast (by assumption)
      | with_reducible refine pcO_bind (JB_mast (by assumption)) (fun _ _ => ?_)
      | with_reducible refine pcO_bind (pcO_some (JB_ms (by assumption) (by decide))) (fun _ _ => ?_)
      | with_reducible refine pcO_bind (pcO_some (JB_0 (by assumption))) (fun _ _ => ?_)
      | with_reducible refine pcO_any (pcO_sel (fun _ => ?_) (fun _ => ?_))
      | with_reducible refine pcO_any (fun _ => ?_)
theorem JB_part_b134 {B : Int} {m : Mu} {v1 : Int} {s1 : Int} {s2 : Int} (h : JB B m) : pcO (m5_part_b134 v1 s1 s2 m) (JB B) := by
    unfold m5_part_b134
    repeat' first
      | with_reducible exact pcO_none
      | with_reducible exact pcO_some (by assumption)
      | with_reducible exact pcO_inl (by assumption)
      | with_reducible exact pcO_inr (by assumption)
      | with_reducible exact pcO_irl (by assumption)
      | with_reducible exact pcO_irr (by assumption)
      | with_reducible exact JB_part_b166 (by assumption)
      | with_reducible refine pcO_ite (fun _ => ?_) (fun _ => ?_)
      | with_reducible refine pcO_bind (JB_part_b166 (by assumption)) (fun _ _ => ?_)
      | with_reducible exact JB_mast (by assumption)
      | with_reducible refine pcO_bind (JB_mast (by assumption)) (fun _ _ => ?_)
      | with_reducible refine pcO_bind (pcO_some (JB_ms (by assumption) (by decide))) (fun _ _ => ?_)
      | with_reducible refine pcO_bind (pcO_some (JB_0 (by assumption))) (fun _ _ => ?_)
      | with_reducible refine pcO_any (pcO_sel (fun _ => ?_) (fun _ => ?_))
      | with_reducible refine pcO_any (fun _ => ?_)
theorem JB_part_b100 {B : Int} {m : Mu} {v1 : Int} {v2 : Int} {v3 : Int} {s0 : Int} (h : JB B m) : pcO (m5_part_b100 v1 v2 v3 s0 m) (JB B) := by
    unfold m5_part_b100
    repeat' first
      | with_reducible exact pcO_none
      | with_reducible exact pcO_some (by assumption)
      | with_reducible exact pcO_inl (by assumption)
      | with_reducible exact pcO_inr (by assumption)
      | with_reducible exact pcO_irl (by assumption)
      | with_reducible exact pcO_irr (by assumption)
      | with_reducible exact JB_part_b134 (by assumption)
      | with_reducible exact JB_wrong (by assumption)
      | with_reducible exact JB_part_b195 (by assumption)
      | with_reducible exact JB_part_b200 (by assumption)
      | with_reducible refine pcO_ite (fun _ => ?_) (fun _ => ?_)
      | with_reducible refine pcO_bind (JB_part_b134 (by assumption)) (fun _ _ => ?_)
      | with_reducible refine pcO_bind (JB_wrong (by assumption)) (fun _ _ => ?_)
      | with_reducible refine pcO_bind (JB_part_b195 (by assumption)) (fun _ _ => ?_)
      | with_reducible refine pcO_bind (JB_part_b200 (by assumption)) (fun _ _ => ?_)
      | with_reducible exact JB_mast (by assumption)
      | with_reducible refine pcO_bind (JB_mast (by assumption)) (fun _ _ => ?_)
      | with_reducible refine pcO_bind (pcO_some (JB_ms (by assumption) (by decide))) (fun _ _ => ?_)
      | with_reducible refine pcO_bind (pcO_some (JB_0 (by assumption))) (fun _ _ => ?_)
      | with_reducible refine pcO_any (pcO_sel (fun _ => ?_) (fun _ => ?_))
      | with_reducible refine pcO_any (fun _ => ?_)
theorem JB_part_b99 {B : Int} {m : Mu} {v1 : Int} {v2 : Int} {v3 : Int} (h : JB B m) : pcO (m5_part_b99 v1 v2 v3 m) (JB B) := by
    unfold m5_part_b99
    repeat' first
      | with_reducible exact pcO_none
      | with_reducible exact pcO_some (by assumption)
      | with_reducible exact pcO_inl (by assumption)
      | with_reducible exact pcO_inr (by assumption)
      | with_reducible exact pcO_irl (by assumption)
      | with_reducible exact pcO_irr (by assumption)
      | with_reducible exact JB_part_b100 (by assumption)
      | with_reducible refine pcO_ite (fun _ => ?_) (fun _ => ?_)
      | with_reducible refine pcO_bind (JB_part_b100 (by assumption)) (fun _ _ => ?_)
      | with_reducible exact JB_mast (by assumption)
      | with_reducible refine pcO_bind (JB_mast (by assumption)) (fun _ _ => ?_)
      | with_reducible refine pcO_bind (pcO_some (JB_ms (by assumption) (by decide))) (fun _ _ => ?_)
      | with_reducible refine pcO_bind (pcO_some (JB_0 (by assumption))) (fun _ _ => ?_)
      | with_reducible refine pcO_any (pcO_sel (fun _ => ?_) (fun _ => ?_))
      | with_reducible refine pcO_any (fun _ => ?_)
theorem JB_part_b74 {B : Int} {m : Mu} {v1 : Int} {v2 : Int} {s0 : Int} (h : JB B m) : pcO (m5_part_b74 v1 v2 s0 m) (JB B) := by
    unfold m5_part_b74
    repeat' first
      | with_reducible exact pcO_none
      | with_reducible exact pcO_some (by assumption)
      | with_reducible exact pcO_inl (by assumption)
      | with_reducible exact pcO_inr (by assumption)
      | with_reducible exact pcO_irl (by assumption)
      | with_reducible exact pcO_irr (by assumption)
      | with_reducible exact JB_next (by assumption)
      | with_reducible exact JB_part_b99 (by assumption)
      | with_reducible exact JB_part_b100 (by assumption)
      | with_reducible refine pcO_ite (fun _ => ?_) (fun _ => ?_)
      | with_reducible refine pcO_bind (JB_next (by assumption)) (fun _ _ => ?_)
      | with_reducible refine pcO_bind (JB_part_b99 (by assumption)) (fun _ _ => ?_)
      | with_reducible refine pcO_bind (JB_part_b100 (by assumption)) (fun _ _ => ?_)
      | with_reducible exact JB_mast (by assumption)
      | with_reducible refine pcO_bind (JB_mast (by assumption)) (fun _ _ => ?_)
      | with_reducible refine pcO_bind (pcO_some (JB_ms (by assumption) (by decide))) (fun _ _ => ?_)
      | with_reducible refine pcO_bind (pcO_some (JB_0 (by assumption))) (fun _ _ => ?_)
      | with_reducible refine pcO_any (pcO_sel (fun _ => ?_) (fun _ => ?_))
      | with_reducible refine pcO_any (fun _ => ?_)
theorem JB_part_b40 {B : Int} {m : Mu} {v1 : Int} {v2 : Int} (h : JB B m) : pcO (m5_part_b40 v1 v2 m) (JB B) := by
    unfold m5_part_b40
    repeat' first
      | with_reducible exact pcO_none
      | with_reducible exact pcO_some (by assumption)
      | with_reducible exact pcO_inl (by assumption)
      | with_reducible exact pcO_inr (by assumption)
      | with_reducible exact pcO_irl (by assumption)
      | with_reducible exact pcO_irr (by assumption)
      | with_reducible exact JB_countNode (by assumption)
      | with_reducible exact JB_part_b74 (by assumption)
      | with_reducible refine pcO_ite (fun _ => ?_) (fun _ => ?_)
      | with_reducible refine pcO_bind (JB_countNode (by assumption)) (fun _ _ => ?_)
      | with_reducible refine pcO_bind (JB_part_b74 (by assumption)) (fun _ _ => ?_)
      | with_reducible exact JB_mast (by assumption)
      | with_reducible refine pcO_bind (JB_mast (by assumption)) (fun _ _ => ?_)
      | with_reducible refine pcO_bind (pcO_some (JB_ms (by assumption) (by decide))) (fun _ _ => ?_)
      | with_reducible refine pcO_bind (pcO_some (JB_0 (by assumption))) (fun _ _ => ?_)
      | with_reducible refine pcO_any (pcO_sel (fun _ => ?_) (fun _ => ?_))
      | with_reducible refine pcO_any (fun _ => ?_)
theorem JB_part {B : Int} {m : Mu} (h : JB B m) : pcO (m5_part m) (JB B) := by
    unfold m5_part
    repeat' first
      | with_reducible exact pcO_none
      | with_reducible exact pcO_some (by assumption)
      | with_reducible exact pcO_inl (by assumption)
      | with_reducible exact pcO_inr (by assumption)
      | with_reducible exact pcO_irl (by assumption)
      | with_reducible exact pcO_irr (by assumption)
      | with_reducible exact JB_part_b40 (by assumption)
      | with_reducible exact JB_wrong (by assumption)
      | with_reducible refine pcO_ite (fun _ => ?_) (fun _ => ?_)
      | with_reducible refine pcO_bind (JB_part_b40 (by assumption)) (fun _ _ => ?_)
      | with_reducible refine pcO_bind (JB_wrong (by assumption)) (fun _ _ => ?_)
      | with_reducible exact JB_mast (by assumption)
      | with_reducible refine pcO_bind (JB_mast (by assumption)) (fun _ _ => ?_)
      | with_reducible refine pcO_bind (pcO_some (JB_ms (by assumption) (by decide))) (fun _ _ => ?_)
      | with_reducible refine pcO_bind (pcO_some (JB_0 (by assumption))) (fun _ _ => ?_)
      | with_reducible refine pcO_any (pcO_sel (fun _ => ?_) (fun _ => ?_))
      | with_reducible refine pcO_any (fun _ => ?_)
theorem JB_cond_b154 {B : Int} {m : Mu} {v2 : Int} {kh : Mu → Option (Mu)} (hk : ∀ (q : Mu), JB B q → pcO (kh  q) (JB B)) (h : JB B m) : pcO (m5_cond_b154 kh v2 m) (JB B) := by
    unfold m5_cond_b154
    repeat' first
      | with_reducible exact pcO_none
      | with_reducible exact pcO_some (by assumption)
      | with_reducible exact pcO_inl (by assumption)
      | with_reducible exact pcO_inr (by assumption)
      | with_reducible exact pcO_irl (by assumption)
      | with_reducible exact pcO_irr (by assumption)
      | with_reducible exact hk _ (by assumption)
      | with_reducible exact JB_emit (by assumption)
      | with_reducible refine pcO_ite (fun _ => ?_) (fun _ => ?_)
      | with_reducible refine pcO_bind (JB_emit (by assumption)) (fun _ _ => ?_)
      | with_reducible exact JB_mast (by assumption)
      | with_reducible refine pcO_bind (JB_mast (by assumption)) (fun _ _ => ?_)
      | with_reducible refine pcO_bind (pcO_some (JB_ms (by assumption) (by decide))) (fun _ _ => ?_)
      | with_reducible refine pcO_bind (pcO_some (JB_0 (by assumption))) (fun _ _ => ?_)
      | with_reducible refine pcO_any (pcO_sel (fun _ => ?_) (fun _ => ?_))
      | with_reducible refine pcO_any (fun _ => ?_)
theorem JB_cond_l134 {B : Int} {v2 : Int} : ∀ (n : Nat) (m : Mu), JB B m → pcO (m5_cond_l134 v2 n  m) (JB B) := by
    intro n
    induction n with
    | zero => intro  m h; exact pcO_none
    | succ n ih =>
      intro  m h
      unfold m5_cond_l134
      repeat' first
        | with_reducible exact pcO_none
        | with_reducible exact pcO_some (by assumption)
        | with_reducible exact pcO_inl (by assumption)
        | with_reducible exact pcO_inr (by assumption)
        | with_reducible exact pcO_irl (by assumption)
        | with_reducible exact pcO_irr (by assumption)
        | with_reducible exact ih _ (by assumption)
        | with_reducible exact JB_cond_b154 ih (by assumption)
        | with_reducible refine pcO_ite (fun _ => ?_) (fun _ => ?_)
        | with_reducible exact JB_mast (by assumption)
        | with_reducible refine pcO_bind (JB_mast (by assumption)) (fun _ _ => ?_)
        | with_reducible refine pcO_bind (pcO_some (JB_ms (by assumption) (by decide))) (fun _ _ => ?_)
        | with_reducible refine pcO_bind (pcO_some (JB_0 (by assumption))) (fun _ _ => ?_)
        | with_reducible refine pcO_any (pcO_sel (fun _ => ?_) (fun _ => ?_))
        | with_reducible refine pcO_any (fun _ => ?_)
theorem JB_cond_l134' {B : Int} {n : Nat} {v2 : Int} {m : Mu} (h : JB B m) : pcO (m5_cond_l134 v2 n  m) (JB B) := JB_cond_l134 n  m h
theorem JB_cond_b199 {B : Int} {m : Mu} {s1 : Int} {s2 : Int} {kh : Int → Mu → Option ((Mu) ⊕ (Mu) ⊕ (Mu))} (hk : ∀ (y0 : Int) (q : Mu), JB B q → pcO (kh y0 q) (Sum.elim (JB B) (Sum.elim (JB B) (JB B)))) (h : JB B m) : pcO (m5_cond_b199 kh s1 s2 m) (Sum.elim (JB B) (Sum.elim (JB B) (JB B))) := by
    unfold m5_cond_b199
    repeat' first
      | with_reducible exact pcO_none
      | with_reducible exact pcO_some (by assumption)
      | with_reducible exact pcO_inl (by assumption)
      | with_reducible exact pcO_inr (by assumption)
      | with_reducible exact pcO_irl (by assumption)
      | with_reducible exact pcO_irr (by assumption)
      | with_reducible exact hk _ _ (by assumption)
      | with_reducible exact JB_next (by assumption)
      | with_reducible refine pcO_ite (fun _ => ?_) (fun _ => ?_)
      | with_reducible refine pcO_bind (JB_next (by assumption)) (fun _ _ => ?_)
      | with_reducible exact JB_mast (by assumption)
      | with_reducible refine pcO_bind (JB_mast (by assumption)) (fun _ _ => ?_)
      | with_reducible refine pcO_bind (pcO_some (JB_ms (by assumption) (by decide))) (fun _ _ => ?_)
      | with_reducible refine pcO_bind (pcO_some (JB_0 (by assumption))) (fun _ _ => ?_)
      | with_reducible refine pcO_any (pcO_sel (fun _ => ?_) (fun _ => ?_))
      | with_reducible refine pcO_any (fun _ => ?_)
theorem JB_cond_b182 {B : Int} {m : Mu} {v2 : Int} {kh : Int → Mu → Option ((Mu) ⊕ (Mu) ⊕ (Mu))} (hk : ∀ (y0 : Int) (q : Mu), JB B q → pcO (kh y0 q) (Sum.elim (JB B) (Sum.elim (JB B) (JB B)))) (h : JB B m) : pcO (m5_cond_b182 kh v2 m) (Sum.elim (JB B) (Sum.elim (JB B) (JB B))) := by
    unfold m5_cond_b182
    repeat' first
      | with_reducible exact pcO_none
      | with_reducible exact pcO_some (by assumption)
      | with_reducible exact pcO_inl (by assumption)
      | with_reducible exact pcO_inr (by assumption)
      | with_reducible exact pcO_irl (by assumption)
      | with_reducible exact pcO_irr (by assumption)
      | with_reducible exact hk _ _ (by assumption)
      | with_reducible exact JB_cond_b199 hk (by assumption)
      | with_reducible refine pcO_ite (fun _ => ?_) (fun _ => ?_)
      | with_reducible exact JB_mast (by assumption)
      | with_reducible refine pcO_bind (JB_mast (by assumption)) (fun _ _ => ?_)
      | with_reducible refine pcO_bind (pcO_some (JB_ms (by assumption) (by decide))) (fun _ _ => ?_)
      | with_reducible refine pcO_bind (pcO_some (JB_0 (by assumption))) (fun _ _ => ?_)
      | with_reducible refine pcO_any (pcO_sel (fun _ => ?_) (fun _ => ?_))
      | with_reducible refine pcO_any (fun _ => ?_)
theorem JB_cond_b123 {B : Int} {m : Mu} {kh : Int → Mu → Option ((Mu) ⊕ (Mu) ⊕ (Mu))} (hk : ∀ (y0 : Int) (q : Mu), JB B q → pcO (kh y0 q) (Sum.elim (JB B) (Sum.elim (JB B) (JB B)))) (h : JB B m) : pcO (m5_cond_b123 kh m) (Sum.elim (JB B) (Sum.elim (JB B) (JB B))) := by
    unfold m5_cond_b123
    repeat' first
      | with_reducible exact pcO_none
      | with_reducible exact pcO_some (by assumption)
      | with_reducible exact pcO_inl (by assumption)
      | with_reducible exact pcO_inr (by assumption)
      | with_reducible exact pcO_irl (by assumption)
      | with_reducible exact pcO_irr (by assumption)
      | with_reducible exact hk _ _ (by assumption)
      | with_reducible exact JB_countNode (by assumption)
      | with_reducible exact JB_cond_l134' (by assumption)
      | with_reducible exact JB_cond_b182 hk (by assumption)
      | with_reducible refine pcO_ite (fun _ => ?_) (fun _ => ?_)
      | with_reducible refine pcO_bind (JB_countNode (by assumption)) (fun _ _ => ?_)
      | with_reducible refine pcO_bind (JB_cond_l134' (by assumption)) (fun _ _ => ?_)
      | with_reducible exact JB_mast (by assumption)
      | with_reducible refine pcO_bind (JB_mast (by assumption)) (fun _ _ => ?_)
      | with_reducible refine pcO_bind (pcO_some (JB_ms (by assumption) (by decide))) (fun _ _ => ?_)
      | with_reducible refine pcO_bind (pcO_some (JB_0 (by assumption))) (fun _ _ => ?_)
      | with_reducible refine pcO_any (pcO_sel (fun _ => ?_) (fun _ => ?_))
      | with_reducible refine pcO_any (fun _ => ?_)
theorem JB_cond_b235 {B : Int} {m : Mu} {v1 : Int} {kh : Mu → Option (Mu)} (hk : ∀ (q : Mu), JB B q → pcO (kh  q) (JB B)) (h : JB B m) : pcO (m5_cond_b235 kh v1 m) (JB B) := by
    unfold m5_cond_b235
    repeat' first
      | with_reducible exact pcO_none
      | with_reducible exact pcO_some (by assumption)
      | with_reducible exact pcO_inl (by assumption)
      | with_reducible exact pcO_inr (by assumption)
      | with_reducible exact pcO_irl (by assumption)
      | with_reducible exact pcO_irr (by assumption)
      | with_reducible exact hk _ (by assumption)
      | with_reducible exact JB_emit (by assumption)
      | with_reducible refine pcO_ite (fun _ => ?_) (fun _ => ?_)
      | with_reducible refine pcO_bind (JB_emit (by assumption)) (fun _ _ => ?_)
      | with_reducible exact JB_mast (by assumption)
      | with_reducible refine pcO_bind (JB_mast (by assumption)) (fun _ _ => ?_)
      | with_reducible refine pcO_bind (pcO_some (JB_ms (by assumption) (by decide))) (fun _ _ => ?_)
      | with_reducible refine pcO_bind (pcO_some (JB_0 (by assumption))) (fun _ _ => ?_)
      | with_reducible refine pcO_any (pcO_sel (fun _ => ?_) (fun _ => ?_))
      | with_reducible refine pcO_any (fun _ => ?_)
theorem JB_cond_l219 {B : Int} {v1 : Int} : ∀ (n : Nat) (m : Mu), JB B m → pcO (m5_cond_l219 v1 n  m) (JB B) := by
    intro n
    induction n with
    | zero => intro  m h; exact pcO_none
    | succ n ih =>
      intro  m h
      unfold m5_cond_l219
      repeat' first
        | with_reducible exact pcO_none
        | with_reducible exact pcO_some (by assumption)
        | with_reducible exact pcO_inl (by assumption)
        | with_reducible exact pcO_inr (by assumption)
        | with_reducible exact pcO_irl (by assumption)
        | with_reducible exact pcO_irr (by assumption)
        | with_reducible exact ih _ (by assumption)
        | with_reducible exact JB_cond_b235 ih (by assumption)
        | with_reducible refine pcO_ite (fun _ => ?_) (fun _ => ?_)
        | with_reducible exact JB_mast (by assumption)
        | with_reducible refine pcO_bind (JB_mast (by assumption)) (fun _ _ => ?_)
        | with_reducible refine pcO_bind (pcO_some (JB_ms (by assumption) (by decide))) (fun _ _ => ?_)
        | with_reducible refine pcO_bind (pcO_some (JB_0 (by assumption))) (fun _ _ => ?_)
        | with_reducible refine pcO_any (pcO_sel (fun _ => ?_) (fun _ => ?_))
        | with_reducible refine pcO_any (fun _ => ?_)
theorem JB_cond_l219' {B : Int} {n : Nat} {v1 : Int} {m : Mu} (h : JB B m) : pcO (m5_cond_l219 v1 n  m) (JB B) := JB_cond_l219 n  m h
theorem JB_cond_l12 {B : Int} : ∀ (n : Nat) (x0 : Int) (m : Mu), JB B m → pcO (m5_cond_l12  n x0 m) (Sum.elim (JB B) (Sum.elim (JB B) (JB B))) := by
    intro n
    induction n with
    | zero => intro x0 m h; exact pcO_none
    | succ n ih =>
      intro x0 m h
      unfold m5_cond_l12
      repeat' first
        | with_reducible exact pcO_none
        | with_reducible exact pcO_some (by assumption)
        | with_reducible exact pcO_inl (by assumption)
        | with_reducible exact pcO_inr (by assumption)
        | with_reducible exact pcO_irl (by assumption)
        | with_reducible exact pcO_irr (by assumption)
        | with_reducible exact ih _ _ (by assumption)
        | with_reducible exact JB_cond_l219' (by assumption)
        | with_reducible exact JB_endPart (by assumption)
        | with_reducible exact JB_next (by assumption)
        | with_reducible exact JB_cond_b123 ih (by assumption)
        | with_reducible exact JB_part (by assumption)
        | with_reducible exact JB_cannot (by assumption)
        | with_reducible exact JB_deeper (by assumption)
        | with_reducible exact JB_countNode (by assumption)
        | with_reducible refine pcO_ite (fun _ => ?_) (fun _ => ?_)
        | with_reducible refine pcO_bind (JB_cond_l219' (by assumption)) (fun _ _ => ?_)
        | with_reducible refine pcO_bind (JB_endPart (by assumption)) (fun _ _ => ?_)
        | with_reducible refine pcO_bind (JB_next (by assumption)) (fun _ _ => ?_)
        | with_reducible refine pcO_bind (JB_part (by assumption)) (fun _ _ => ?_)
        | with_reducible refine pcO_bind (JB_cannot (by assumption)) (fun _ _ => ?_)
        | with_reducible refine pcO_bind (JB_deeper (by assumption)) (fun _ _ => ?_)
        | with_reducible refine pcO_bind (JB_countNode (by assumption)) (fun _ _ => ?_)
        | with_reducible exact JB_mast (by assumption)
        | with_reducible refine pcO_bind (JB_mast (by assumption)) (fun _ _ => ?_)
        | with_reducible refine pcO_bind (pcO_some (JB_ms (by assumption) (by decide))) (fun _ _ => ?_)
        | with_reducible refine pcO_bind (pcO_some (JB_0 (by assumption))) (fun _ _ => ?_)
        | with_reducible refine pcO_any (pcO_sel (fun _ => ?_) (fun _ => ?_))
        | with_reducible refine pcO_any (fun _ => ?_)
theorem JB_cond_l12' {B : Int} {n : Nat} {x0 : Int} {m : Mu} (h : JB B m) : pcO (m5_cond_l12  n x0 m) (Sum.elim (JB B) (Sum.elim (JB B) (JB B))) := JB_cond_l12 n x0 m h
theorem JB_cond {B : Int} {m : Mu} (h : JB B m) : pcO (m5_cond m) (JB B) := by
    unfold m5_cond
    repeat' first
      | with_reducible exact pcO_none
      | with_reducible exact pcO_some (by assumption)
      | with_reducible exact pcO_inl (by assumption)
      | with_reducible exact pcO_inr (by assumption)
      | with_reducible exact pcO_irl (by assumption)
      | with_reducible exact pcO_irr (by assumption)
      | with_reducible exact JB_cond_l12' (by assumption)
      | with_reducible exact JB_cannot (by assumption)
      | with_reducible refine pcO_ite (fun _ => ?_) (fun _ => ?_)
      | with_reducible refine pcO_s3 (JB_cond_l12' (by assumption)) (fun _ _ => ?_) (fun _ _ => ?_) (fun _ _ => ?_)
      | with_reducible refine pcO_bind (JB_cannot (by assumption)) (fun _ _ => ?_)
      | with_reducible exact JB_mast (by assumption)
      | with_reducible refine pcO_bind (JB_mast (by assumption)) (fun _ _ => ?_)
      | with_reducible refine pcO_bind (pcO_some (JB_ms (by assumption) (by decide))) (fun _ _ => ?_)
      | with_reducible refine pcO_bind (pcO_some (JB_0 (by assumption))) (fun _ _ => ?_)
      | with_reducible refine pcO_any (pcO_sel (fun _ => ?_) (fun _ => ?_))
      | with_reducible refine pcO_any (fun _ => ?_)
theorem JB_wantsSign {B : Int} {m : Mu} {v1 : Int} (h : JB B m) : pcO (m5_wantsSign v1 m) (JB B) := by
    unfold m5_wantsSign
    repeat' first
      | with_reducible exact pcO_none
      | with_reducible exact pcO_some (by assumption)
      | with_reducible exact pcO_inl (by assumption)
      | with_reducible exact pcO_inr (by assumption)
      | with_reducible exact pcO_irl (by assumption)
      | with_reducible exact pcO_irr (by assumption)
      | with_reducible exact JB_cannot (by assumption)
      | with_reducible exact JB_next (by assumption)
      | with_reducible refine pcO_ite (fun _ => ?_) (fun _ => ?_)
      | with_reducible refine pcO_bind (JB_cannot (by assumption)) (fun _ _ => ?_)
      | with_reducible refine pcO_bind (JB_next (by assumption)) (fun _ _ => ?_)
      | with_reducible exact JB_mast (by assumption)
      | with_reducible refine pcO_bind (JB_mast (by assumption)) (fun _ _ => ?_)
      | with_reducible refine pcO_bind (pcO_some (JB_ms (by assumption) (by decide))) (fun _ _ => ?_)
      | with_reducible refine pcO_bind (pcO_some (JB_0 (by assumption))) (fun _ _ => ?_)
      | with_reducible refine pcO_any (pcO_sel (fun _ => ?_) (fun _ => ?_))
      | with_reducible refine pcO_any (fun _ => ?_)
theorem JB_readClause {B : Int} {m : Mu} (h : JB B m) : pcO (m5_readClause m) (JB B) := by
    unfold m5_readClause
    repeat' first
      | with_reducible exact pcO_none
      | with_reducible exact pcO_some (by assumption)
      | with_reducible exact pcO_inl (by assumption)
      | with_reducible exact pcO_inr (by assumption)
      | with_reducible exact pcO_irl (by assumption)
      | with_reducible exact pcO_irr (by assumption)
      | with_reducible exact JB_next (by assumption)
      | with_reducible exact JB_cond (by assumption)
      | with_reducible exact JB_wantsSign (by assumption)
      | with_reducible refine pcO_ite (fun _ => ?_) (fun _ => ?_)
      | with_reducible refine pcO_bind (JB_next (by assumption)) (fun _ _ => ?_)
      | with_reducible refine pcO_bind (JB_cond (by assumption)) (fun _ _ => ?_)
      | with_reducible refine pcO_bind (JB_wantsSign (by assumption)) (fun _ _ => ?_)
      | with_reducible exact JB_mast (by assumption)
      | with_reducible refine pcO_bind (JB_mast (by assumption)) (fun _ _ => ?_)
      | with_reducible refine pcO_bind (pcO_some (JB_ms (by assumption) (by decide))) (fun _ _ => ?_)
      | with_reducible refine pcO_bind (pcO_some (JB_0 (by assumption))) (fun _ _ => ?_)
      | with_reducible refine pcO_any (pcO_sel (fun _ => ?_) (fun _ => ?_))
      | with_reducible refine pcO_any (fun _ => ?_)
theorem JB_newName_b47 {B : Int} {m : Mu} (h : JB B m) : pcO (m5_newName_b47 m) (JB B) := by
    unfold m5_newName_b47
    repeat' first
      | with_reducible exact pcO_none
      | with_reducible exact pcO_some (by assumption)
      | with_reducible exact pcO_inl (by assumption)
      | with_reducible exact pcO_inr (by assumption)
      | with_reducible exact pcO_irl (by assumption)
      | with_reducible exact pcO_irr (by assumption)
      | with_reducible exact JB_wrong (by assumption)
      | with_reducible refine pcO_ite (fun _ => ?_) (fun _ => ?_)
      | with_reducible refine pcO_bind (JB_wrong (by assumption)) (fun _ _ => ?_)
      | with_reducible exact JB_mast (by assumption)
      | with_reducible refine pcO_bind (JB_mast (by assumption)) (fun _ _ => ?_)
      | with_reducible refine pcO_bind (pcO_some (JB_ms (by assumption) (by decide))) (fun _ _ => ?_)
      | with_reducible refine pcO_bind (pcO_some (JB_0 (by assumption))) (fun _ _ => ?_)
      | with_reducible refine pcO_any (pcO_sel (fun _ => ?_) (fun _ => ?_))
      | with_reducible refine pcO_any (fun _ => ?_)
theorem JB_newName {B : Int} {m : Mu} {v1 : Int} {v2 : Int} (h : JB B m) : pcO (m5_newName v1 v2 m) (JB B) := by
    unfold m5_newName
    repeat' first
      | with_reducible exact pcO_none
      | with_reducible exact pcO_some (by assumption)
      | with_reducible exact pcO_inl (by assumption)
      | with_reducible exact pcO_inr (by assumption)
      | with_reducible exact pcO_irl (by assumption)
      | with_reducible exact pcO_irr (by assumption)
      | with_reducible exact JB_newName_b47 (by assumption)
      | with_reducible exact JB_wrong (by assumption)
      | with_reducible exact JB_cannot (by assumption)
      | with_reducible refine pcO_ite (fun _ => ?_) (fun _ => ?_)
      | with_reducible refine pcO_bind (JB_newName_b47 (by assumption)) (fun _ _ => ?_)
      | with_reducible refine pcO_bind (JB_wrong (by assumption)) (fun _ _ => ?_)
      | with_reducible refine pcO_bind (JB_cannot (by assumption)) (fun _ _ => ?_)
      | with_reducible exact JB_mast (by assumption)
      | with_reducible refine pcO_bind (JB_mast (by assumption)) (fun _ _ => ?_)
      | with_reducible refine pcO_bind (pcO_some (JB_ms (by assumption) (by decide))) (fun _ _ => ?_)
      | with_reducible refine pcO_bind (pcO_some (JB_0 (by assumption))) (fun _ _ => ?_)
      | with_reducible refine pcO_any (pcO_sel (fun _ => ?_) (fun _ => ?_))
      | with_reducible refine pcO_any (fun _ => ?_)
theorem JB_readChoices_l2 {B : Int} {v1 : Int} : ∀ (n : Nat) (x0 : Int) (m : Mu), JB B m → pcO (m5_readChoices_l2 v1 n x0 m) (JB B) := by
    intro n
    induction n with
    | zero => intro x0 m h; exact pcO_none
    | succ n ih =>
      intro x0 m h
      unfold m5_readChoices_l2
      repeat' first
        | with_reducible exact pcO_none
        | with_reducible exact pcO_some (by assumption)
        | with_reducible exact pcO_inl (by assumption)
        | with_reducible exact pcO_inr (by assumption)
        | with_reducible exact pcO_irl (by assumption)
        | with_reducible exact pcO_irr (by assumption)
        | with_reducible exact ih _ _ (by assumption)
        | with_reducible exact JB_wrong (by assumption)
        | with_reducible exact JB_next (by assumption)
        | with_reducible exact JB_cannot (by assumption)
        | with_reducible refine pcO_ite (fun _ => ?_) (fun _ => ?_)
        | with_reducible refine pcO_bind (JB_wrong (by assumption)) (fun _ _ => ?_)
        | with_reducible refine pcO_bind (JB_next (by assumption)) (fun _ _ => ?_)
        | with_reducible refine pcO_bind (JB_cannot (by assumption)) (fun _ _ => ?_)
        | with_reducible exact JB_mast (by assumption)
        | with_reducible refine pcO_bind (JB_mast (by assumption)) (fun _ _ => ?_)
        | with_reducible refine pcO_bind (pcO_some (JB_ms (by assumption) (by decide))) (fun _ _ => ?_)
        | with_reducible refine pcO_bind (pcO_some (JB_0 (by assumption))) (fun _ _ => ?_)
        | with_reducible refine pcO_any (pcO_sel (fun _ => ?_) (fun _ => ?_))
        | with_reducible refine pcO_any (fun _ => ?_)
theorem JB_readChoices_l2' {B : Int} {n : Nat} {v1 : Int} {x0 : Int} {m : Mu} (h : JB B m) : pcO (m5_readChoices_l2 v1 n x0 m) (JB B) := JB_readChoices_l2 n x0 m h
theorem JB_readChoices {B : Int} {m : Mu} {v1 : Int} (h : JB B m) : pcO (m5_readChoices v1 m) (JB B) := by
    unfold m5_readChoices
    repeat' first
      | with_reducible exact pcO_none
      | with_reducible exact pcO_some (by assumption)
      | with_reducible exact pcO_inl (by assumption)
      | with_reducible exact pcO_inr (by assumption)
      | with_reducible exact pcO_irl (by assumption)
      | with_reducible exact pcO_irr (by assumption)
      | with_reducible exact JB_readChoices_l2' (by assumption)
      | with_reducible refine pcO_ite (fun _ => ?_) (fun _ => ?_)
      | with_reducible refine pcO_bind (JB_readChoices_l2' (by assumption)) (fun _ _ => ?_)
      | with_reducible exact JB_mast (by assumption)
      | with_reducible refine pcO_bind (JB_mast (by assumption)) (fun _ _ => ?_)
      | with_reducible refine pcO_bind (pcO_some (JB_ms (by assumption) (by decide))) (fun _ _ => ?_)
      | with_reducible refine pcO_bind (pcO_some (JB_0 (by assumption))) (fun _ _ => ?_)
      | with_reducible refine pcO_any (pcO_sel (fun _ => ?_) (fun _ => ?_))
      | with_reducible refine pcO_any (fun _ => ?_)
theorem JB_wantsNumber_b38 {B : Int} {m : Mu} {v1 : Int} (h : JB B m) : pcO (m5_wantsNumber_b38 v1 m) (fun r : Int × Mu => JB B r.2) := by
    unfold m5_wantsNumber_b38
    repeat' first
      | with_reducible exact pcO_none
      | with_reducible exact pcO_some (by assumption)
      | with_reducible exact pcO_inl (by assumption)
      | with_reducible exact pcO_inr (by assumption)
      | with_reducible exact pcO_irl (by assumption)
      | with_reducible exact pcO_irr (by assumption)
      | with_reducible exact JB_wrong (by assumption)
      | with_reducible refine pcO_ite (fun _ => ?_) (fun _ => ?_)
      | with_reducible refine pcO_bind (JB_wrong (by assumption)) (fun _ _ => ?_)
      | with_reducible exact JB_mast (by assumption)
      | with_reducible refine pcO_bind (JB_mast (by assumption)) (fun _ _ => ?_)
      | with_reducible refine pcO_bind (pcO_some (JB_ms (by assumption) (by decide))) (fun _ _ => ?_)
      | with_reducible refine pcO_bind (pcO_some (JB_0 (by assumption))) (fun _ _ => ?_)
      | with_reducible refine pcO_any (pcO_sel (fun _ => ?_) (fun _ => ?_))
      | with_reducible refine pcO_any (fun _ => ?_)
theorem JB_wantsNumber {B : Int} {m : Mu} {v1 : Int} {v2 : Int} (h : JB B m) : pcO (m5_wantsNumber v1 v2 m) (fun r : Int × Mu => JB B r.2) := by
    unfold m5_wantsNumber
    repeat' first
      | with_reducible exact pcO_none
      | with_reducible exact pcO_some (by assumption)
      | with_reducible exact pcO_inl (by assumption)
      | with_reducible exact pcO_inr (by assumption)
      | with_reducible exact pcO_irl (by assumption)
      | with_reducible exact pcO_irr (by assumption)
      | with_reducible exact JB_wantsNumber_b38 (by assumption)
      | with_reducible exact JB_next (by assumption)
      | with_reducible exact JB_cannot (by assumption)
      | with_reducible refine pcO_ite (fun _ => ?_) (fun _ => ?_)
      | with_reducible refine pcO_bind (JB_wantsNumber_b38 (by assumption)) (fun _ _ => ?_)
      | with_reducible refine pcO_bind (JB_next (by assumption)) (fun _ _ => ?_)
      | with_reducible refine pcO_bind (JB_cannot (by assumption)) (fun _ _ => ?_)
      | with_reducible exact JB_mast (by assumption)
      | with_reducible refine pcO_bind (JB_mast (by assumption)) (fun _ _ => ?_)
      | with_reducible refine pcO_bind (pcO_some (JB_ms (by assumption) (by decide))) (fun _ _ => ?_)
      | with_reducible refine pcO_bind (pcO_some (JB_0 (by assumption))) (fun _ _ => ?_)
      | with_reducible refine pcO_any (pcO_sel (fun _ => ?_) (fun _ => ?_))
      | with_reducible refine pcO_any (fun _ => ?_)
theorem JB_wantsWord {B : Int} {m : Mu} {v1 : Int} (h : JB B m) : pcO (m5_wantsWord v1 m) (JB B) := by
    unfold m5_wantsWord
    repeat' first
      | with_reducible exact pcO_none
      | with_reducible exact pcO_some (by assumption)
      | with_reducible exact pcO_inl (by assumption)
      | with_reducible exact pcO_inr (by assumption)
      | with_reducible exact pcO_irl (by assumption)
      | with_reducible exact pcO_irr (by assumption)
      | with_reducible exact JB_cannot (by assumption)
      | with_reducible exact JB_next (by assumption)
      | with_reducible refine pcO_ite (fun _ => ?_) (fun _ => ?_)
      | with_reducible refine pcO_bind (JB_cannot (by assumption)) (fun _ _ => ?_)
      | with_reducible refine pcO_bind (JB_next (by assumption)) (fun _ _ => ?_)
      | with_reducible exact JB_mast (by assumption)
      | with_reducible refine pcO_bind (JB_mast (by assumption)) (fun _ _ => ?_)
      | with_reducible refine pcO_bind (pcO_some (JB_ms (by assumption) (by decide))) (fun _ _ => ?_)
      | with_reducible refine pcO_bind (pcO_some (JB_0 (by assumption))) (fun _ _ => ?_)
      | with_reducible refine pcO_any (pcO_sel (fun _ => ?_) (fun _ => ?_))
      | with_reducible refine pcO_any (fun _ => ?_)
theorem JB_readFact_b208 {B : Int} {m : Mu} (h : JB B m) : pcO (m5_readFact_b208 m) (JB B) := by
    unfold m5_readFact_b208
    repeat' first
      | with_reducible exact pcO_none
      | with_reducible exact pcO_some (by assumption)
      | with_reducible exact pcO_inl (by assumption)
      | with_reducible exact pcO_inr (by assumption)
      | with_reducible exact pcO_irl (by assumption)
      | with_reducible exact pcO_irr (by assumption)
      | with_reducible exact JB_wantsSign (by assumption)
      | with_reducible refine pcO_ite (fun _ => ?_) (fun _ => ?_)
      | with_reducible refine pcO_bind (JB_wantsSign (by assumption)) (fun _ _ => ?_)
      | with_reducible exact JB_mast (by assumption)
      | with_reducible refine pcO_bind (JB_mast (by assumption)) (fun _ _ => ?_)
      | with_reducible refine pcO_bind (pcO_some (JB_ms (by assumption) (by decide))) (fun _ _ => ?_)
      | with_reducible refine pcO_bind (pcO_some (JB_0 (by assumption))) (fun _ _ => ?_)
      | with_reducible refine pcO_any (pcO_sel (fun _ => ?_) (fun _ => ?_))
      | with_reducible refine pcO_any (fun _ => ?_)
theorem JB_readFact {B : Int} {m : Mu} (h : JB B m) : pcO (m5_readFact m) (JB B) := by
    unfold m5_readFact
    repeat' first
      | with_reducible exact pcO_none
      | with_reducible exact pcO_some (by assumption)
      | with_reducible exact pcO_inl (by assumption)
      | with_reducible exact pcO_inr (by assumption)
      | with_reducible exact pcO_irl (by assumption)
      | with_reducible exact pcO_irr (by assumption)
      | with_reducible exact JB_newName (by assumption)
      | with_reducible exact JB_next (by assumption)
      | with_reducible exact JB_cannot (by assumption)
      | with_reducible exact JB_readFact_b208 (by assumption)
      | with_reducible exact JB_wantsNumber (by assumption)
      | with_reducible exact JB_wantsWord (by assumption)
      | with_reducible exact JB_readChoices (by assumption)
      | with_reducible refine pcO_ite (fun _ => ?_) (fun _ => ?_)
      | with_reducible refine pcO_bind (JB_newName (by assumption)) (fun _ _ => ?_)
      | with_reducible refine pcO_bind (JB_next (by assumption)) (fun _ _ => ?_)
      | with_reducible refine pcO_bind (JB_cannot (by assumption)) (fun _ _ => ?_)
      | with_reducible refine pcO_bind (JB_readFact_b208 (by assumption)) (fun _ _ => ?_)
      | with_reducible refine pcO_bind (JB_wantsNumber (by assumption)) (fun _ _ => ?_)
      | with_reducible refine pcO_bind (JB_wantsWord (by assumption)) (fun _ _ => ?_)
      | with_reducible refine pcO_bind (JB_readChoices (by assumption)) (fun _ _ => ?_)
      | with_reducible exact JB_mast (by assumption)
      | with_reducible refine pcO_bind (JB_mast (by assumption)) (fun _ _ => ?_)
      | with_reducible refine pcO_bind (pcO_some (JB_ms (by assumption) (by decide))) (fun _ _ => ?_)
      | with_reducible refine pcO_bind (pcO_some (JB_0 (by assumption))) (fun _ _ => ?_)
      | with_reducible refine pcO_any (pcO_sel (fun _ => ?_) (fun _ => ?_))
      | with_reducible refine pcO_any (fun _ => ?_)
theorem JB_readMean {B : Int} {m : Mu} (h : JB B m) : pcO (m5_readMean m) (JB B) := by
    unfold m5_readMean
    repeat' first
      | with_reducible exact pcO_none
      | with_reducible exact pcO_some (by assumption)
      | with_reducible exact pcO_inl (by assumption)
      | with_reducible exact pcO_inr (by assumption)
      | with_reducible exact pcO_irl (by assumption)
      | with_reducible exact pcO_irr (by assumption)
      | with_reducible exact JB_newName (by assumption)
      | with_reducible exact JB_next (by assumption)
      | with_reducible exact JB_wantsSign (by assumption)
      | with_reducible exact JB_cond (by assumption)
      | with_reducible refine pcO_ite (fun _ => ?_) (fun _ => ?_)
      | with_reducible refine pcO_bind (JB_newName (by assumption)) (fun _ _ => ?_)
      | with_reducible refine pcO_bind (JB_next (by assumption)) (fun _ _ => ?_)
      | with_reducible refine pcO_bind (JB_wantsSign (by assumption)) (fun _ _ => ?_)
      | with_reducible refine pcO_bind (JB_cond (by assumption)) (fun _ _ => ?_)
      | with_reducible exact JB_mast (by assumption)
      | with_reducible refine pcO_bind (JB_mast (by assumption)) (fun _ _ => ?_)
      | with_reducible refine pcO_bind (pcO_some (JB_ms (by assumption) (by decide))) (fun _ _ => ?_)
      | with_reducible refine pcO_bind (pcO_some (JB_0 (by assumption))) (fun _ _ => ?_)
      | with_reducible refine pcO_any (pcO_sel (fun _ => ?_) (fun _ => ?_))
      | with_reducible refine pcO_any (fun _ => ?_)
theorem JB_readSum {B : Int} {m : Mu} {v1 : Int} {v2 : Int} (h : JB B m) : pcO (m5_readSum v1 v2 m) (JB B) := by
    unfold m5_readSum
    repeat' first
      | with_reducible exact pcO_none
      | with_reducible exact pcO_some (by assumption)
      | with_reducible exact pcO_inl (by assumption)
      | with_reducible exact pcO_inr (by assumption)
      | with_reducible exact pcO_irl (by assumption)
      | with_reducible exact pcO_irr (by assumption)
      | with_reducible exact JB_next (by assumption)
      | with_reducible exact JB_wantsSign (by assumption)
      | with_reducible exact JB_wrong (by assumption)
      | with_reducible refine pcO_ite (fun _ => ?_) (fun _ => ?_)
      | with_reducible refine pcO_bind (JB_next (by assumption)) (fun _ _ => ?_)
      | with_reducible refine pcO_bind (JB_wantsSign (by assumption)) (fun _ _ => ?_)
      | with_reducible refine pcO_bind (JB_wrong (by assumption)) (fun _ _ => ?_)
      | with_reducible exact JB_mast (by assumption)
      | with_reducible refine pcO_bind (JB_mast (by assumption)) (fun _ _ => ?_)
      | with_reducible refine pcO_bind (pcO_some (JB_ms (by assumption) (by decide))) (fun _ _ => ?_)
      | with_reducible refine pcO_bind (pcO_some (JB_0 (by assumption))) (fun _ _ => ?_)
      | with_reducible refine pcO_any (pcO_sel (fun _ => ?_) (fun _ => ?_))
      | with_reducible refine pcO_any (fun _ => ?_)
theorem JB_readMost_b61 {B : Int} {m : Mu} {v1 : Int} {s0 : Int} (h : JB B m) : pcO (m5_readMost_b61 v1 s0 m) (JB B) := by
    unfold m5_readMost_b61
    repeat' first
      | with_reducible exact pcO_none
      | with_reducible exact pcO_some (by assumption)
      | with_reducible exact pcO_inl (by assumption)
      | with_reducible exact pcO_inr (by assumption)
      | with_reducible exact pcO_irl (by assumption)
      | with_reducible exact pcO_irr (by assumption)
      | with_reducible exact JB_readSum (by assumption)
      | with_reducible exact JB_cannot (by assumption)
      | with_reducible refine pcO_ite (fun _ => ?_) (fun _ => ?_)
      | with_reducible refine pcO_bind (JB_readSum (by assumption)) (fun _ _ => ?_)
      | with_reducible refine pcO_bind (JB_cannot (by assumption)) (fun _ _ => ?_)
      | with_reducible exact JB_mast (by assumption)
      | with_reducible refine pcO_bind (JB_mast (by assumption)) (fun _ _ => ?_)
      | with_reducible refine pcO_bind (pcO_some (JB_ms (by assumption) (by decide))) (fun _ _ => ?_)
      | with_reducible refine pcO_bind (pcO_some (JB_0 (by assumption))) (fun _ _ => ?_)
      | with_reducible refine pcO_any (pcO_sel (fun _ => ?_) (fun _ => ?_))
      | with_reducible refine pcO_any (fun _ => ?_)
theorem JB_readMost {B : Int} {m : Mu} (h : JB B m) : pcO (m5_readMost m) (JB B) := by
    unfold m5_readMost
    repeat' first
      | with_reducible exact pcO_none
      | with_reducible exact pcO_some (by assumption)
      | with_reducible exact pcO_inl (by assumption)
      | with_reducible exact pcO_inr (by assumption)
      | with_reducible exact pcO_irl (by assumption)
      | with_reducible exact pcO_irr (by assumption)
      | with_reducible exact JB_next (by assumption)
      | with_reducible exact JB_wantsNumber (by assumption)
      | with_reducible exact JB_readMost_b61 (by assumption)
      | with_reducible refine pcO_ite (fun _ => ?_) (fun _ => ?_)
      | with_reducible refine pcO_bind (JB_next (by assumption)) (fun _ _ => ?_)
      | with_reducible refine pcO_bind (JB_wantsNumber (by assumption)) (fun _ _ => ?_)
      | with_reducible refine pcO_bind (JB_readMost_b61 (by assumption)) (fun _ _ => ?_)
      | with_reducible exact JB_mast (by assumption)
      | with_reducible refine pcO_bind (JB_mast (by assumption)) (fun _ _ => ?_)
      | with_reducible refine pcO_bind (pcO_some (JB_ms (by assumption) (by decide))) (fun _ _ => ?_)
      | with_reducible refine pcO_bind (pcO_some (JB_0 (by assumption))) (fun _ _ => ?_)
      | with_reducible refine pcO_any (pcO_sel (fun _ => ?_) (fun _ => ?_))
      | with_reducible refine pcO_any (fun _ => ?_)
theorem JB_readPrice_b79 {B : Int} {m : Mu} (h : JB B m) : pcO (m5_readPrice_b79 m) (JB B) := by
    unfold m5_readPrice_b79
    repeat' first
      | with_reducible exact pcO_none
      | with_reducible exact pcO_some (by assumption)
      | with_reducible exact pcO_inl (by assumption)
      | with_reducible exact pcO_inr (by assumption)
      | with_reducible exact pcO_irl (by assumption)
      | with_reducible exact pcO_irr (by assumption)
      | with_reducible exact JB_wrong (by assumption)
      | with_reducible refine pcO_ite (fun _ => ?_) (fun _ => ?_)
      | with_reducible refine pcO_bind (JB_wrong (by assumption)) (fun _ _ => ?_)
      | with_reducible exact JB_mast (by assumption)
      | with_reducible refine pcO_bind (JB_mast (by assumption)) (fun _ _ => ?_)
      | with_reducible refine pcO_bind (pcO_some (JB_ms (by assumption) (by decide))) (fun _ _ => ?_)
      | with_reducible refine pcO_bind (pcO_some (JB_0 (by assumption))) (fun _ _ => ?_)
      | with_reducible refine pcO_any (pcO_sel (fun _ => ?_) (fun _ => ?_))
      | with_reducible refine pcO_any (fun _ => ?_)
theorem JB_readPrice_b191 {B : Int} {m : Mu} {v2 : Int} (h : JB B m) : pcO (m5_readPrice_b191 v2 m) (JB B) := by
    unfold m5_readPrice_b191
    repeat' first
      | with_reducible exact pcO_none
      | with_reducible exact pcO_some (by assumption)
      | with_reducible exact pcO_inl (by assumption)
      | with_reducible exact pcO_inr (by assumption)
      | with_reducible exact pcO_irl (by assumption)
      | with_reducible exact pcO_irr (by assumption)
      | with_reducible exact JB_wantsSign (by assumption)
      | with_reducible refine pcO_ite (fun _ => ?_) (fun _ => ?_)
      | with_reducible refine pcO_bind (JB_wantsSign (by assumption)) (fun _ _ => ?_)
      | with_reducible exact JB_mast (by assumption)
      | with_reducible refine pcO_bind (JB_mast (by assumption)) (fun _ _ => ?_)
      | with_reducible refine pcO_bind (pcO_some (JB_ms (by assumption) (by decide))) (fun _ _ => ?_)
      | with_reducible refine pcO_bind (pcO_some (JB_0 (by assumption))) (fun _ _ => ?_)
      | with_reducible refine pcO_any (pcO_sel (fun _ => ?_) (fun _ => ?_))
      | with_reducible refine pcO_any (fun _ => ?_)
theorem JB_readPrice_b174 {B : Int} {m : Mu} {v2 : Int} (h : JB B m) : pcO (m5_readPrice_b174 v2 m) (JB B) := by
    unfold m5_readPrice_b174
    repeat' first
      | with_reducible exact pcO_none
      | with_reducible exact pcO_some (by assumption)
      | with_reducible exact pcO_inl (by assumption)
      | with_reducible exact pcO_inr (by assumption)
      | with_reducible exact pcO_irl (by assumption)
      | with_reducible exact pcO_irr (by assumption)
      | with_reducible exact JB_readPrice_b191 (by assumption)
      | with_reducible exact JB_next (by assumption)
      | with_reducible exact JB_cond (by assumption)
      | with_reducible refine pcO_ite (fun _ => ?_) (fun _ => ?_)
      | with_reducible refine pcO_bind (JB_readPrice_b191 (by assumption)) (fun _ _ => ?_)
      | with_reducible refine pcO_bind (JB_next (by assumption)) (fun _ _ => ?_)
      | with_reducible refine pcO_bind (JB_cond (by assumption)) (fun _ _ => ?_)
      | with_reducible exact JB_mast (by assumption)
      | with_reducible refine pcO_bind (JB_mast (by assumption)) (fun _ _ => ?_)
      | with_reducible refine pcO_bind (pcO_some (JB_ms (by assumption) (by decide))) (fun _ _ => ?_)
      | with_reducible refine pcO_bind (pcO_some (JB_0 (by assumption))) (fun _ _ => ?_)
      | with_reducible refine pcO_any (pcO_sel (fun _ => ?_) (fun _ => ?_))
      | with_reducible refine pcO_any (fun _ => ?_)
theorem JB_readPrice_b144 {B : Int} {m : Mu} {v1 : Int} {v2 : Int} {s1 : Int} {s2 : Int} (h : JB B m) : pcO (m5_readPrice_b144 v1 v2 s1 s2 m) (JB B) := by
    unfold m5_readPrice_b144
    repeat' first
      | with_reducible exact pcO_none
      | with_reducible exact pcO_some (by assumption)
      | with_reducible exact pcO_inl (by assumption)
      | with_reducible exact pcO_inr (by assumption)
      | with_reducible exact pcO_irl (by assumption)
      | with_reducible exact pcO_irr (by assumption)
      | with_reducible exact JB_readPrice_b174 (by assumption)
      | with_reducible exact JB_readPrice_b191 (by assumption)
      | with_reducible refine pcO_ite (fun _ => ?_) (fun _ => ?_)
      | with_reducible refine pcO_bind (JB_readPrice_b174 (by assumption)) (fun _ _ => ?_)
      | with_reducible refine pcO_bind (JB_readPrice_b191 (by assumption)) (fun _ _ => ?_)
      | with_reducible exact JB_mast (by assumption)
      | with_reducible refine pcO_bind (JB_mast (by assumption)) (fun _ _ => ?_)
      | with_reducible refine pcO_bind (pcO_some (JB_ms (by assumption) (by decide))) (fun _ _ => ?_)
      | with_reducible refine pcO_bind (pcO_some (JB_0 (by assumption))) (fun _ _ => ?_)
      | with_reducible refine pcO_any (pcO_sel (fun _ => ?_) (fun _ => ?_))
      | with_reducible refine pcO_any (fun _ => ?_)
theorem JB_readPrice_b86 {B : Int} {m : Mu} {v1 : Int} {v2 : Int} (h : JB B m) : pcO (m5_readPrice_b86 v1 v2 m) (JB B) := by
    unfold m5_readPrice_b86
    repeat' first
      | with_reducible exact pcO_none
      | with_reducible exact pcO_some (by assumption)
      | with_reducible exact pcO_inl (by assumption)
      | with_reducible exact pcO_inr (by assumption)
      | with_reducible exact pcO_irl (by assumption)
      | with_reducible exact pcO_irr (by assumption)
      | with_reducible exact JB_next (by assumption)
      | with_reducible exact JB_wantsNumber (by assumption)
      | with_reducible exact JB_readPrice_b144 (by assumption)
      | with_reducible refine pcO_ite (fun _ => ?_) (fun _ => ?_)
      | with_reducible refine pcO_bind (JB_next (by assumption)) (fun _ _ => ?_)
      | with_reducible refine pcO_bind (JB_wantsNumber (by assumption)) (fun _ _ => ?_)
      | with_reducible refine pcO_bind (JB_readPrice_b144 (by assumption)) (fun _ _ => ?_)
      | with_reducible exact JB_mast (by assumption)
      | with_reducible refine pcO_bind (JB_mast (by assumption)) (fun _ _ => ?_)
      | with_reducible refine pcO_bind (pcO_some (JB_ms (by assumption) (by decide))) (fun _ _ => ?_)
      | with_reducible refine pcO_bind (pcO_some (JB_0 (by assumption))) (fun _ _ => ?_)
      | with_reducible refine pcO_any (pcO_sel (fun _ => ?_) (fun _ => ?_))
      | with_reducible refine pcO_any (fun _ => ?_)
theorem JB_readPrice_b62 {B : Int} {m : Mu} {v1 : Int} {v2 : Int} {v3 : Int} (h : JB B m) : pcO (m5_readPrice_b62 v1 v2 v3 m) (JB B) := by
    unfold m5_readPrice_b62
    repeat' first
      | with_reducible exact pcO_none
      | with_reducible exact pcO_some (by assumption)
      | with_reducible exact pcO_inl (by assumption)
      | with_reducible exact pcO_inr (by assumption)
      | with_reducible exact pcO_irl (by assumption)
      | with_reducible exact pcO_irr (by assumption)
      | with_reducible exact JB_readPrice_b79 (by assumption)
      | with_reducible exact JB_readPrice_b86 (by assumption)
      | with_reducible refine pcO_ite (fun _ => ?_) (fun _ => ?_)
      | with_reducible refine pcO_bind (JB_readPrice_b79 (by assumption)) (fun _ _ => ?_)
      | with_reducible refine pcO_bind (JB_readPrice_b86 (by assumption)) (fun _ _ => ?_)
      | with_reducible exact JB_mast (by assumption)
      | with_reducible refine pcO_bind (JB_mast (by assumption)) (fun _ _ => ?_)
      | with_reducible refine pcO_bind (pcO_some (JB_ms (by assumption) (by decide))) (fun _ _ => ?_)
      | with_reducible refine pcO_bind (pcO_some (JB_0 (by assumption))) (fun _ _ => ?_)
      | with_reducible refine pcO_any (pcO_sel (fun _ => ?_) (fun _ => ?_))
      | with_reducible refine pcO_any (fun _ => ?_)
theorem JB_readPrice {B : Int} {m : Mu} (h : JB B m) : pcO (m5_readPrice m) (JB B) := by
    unfold m5_readPrice
    repeat' first
      | with_reducible exact pcO_none
      | with_reducible exact pcO_some (by assumption)
      | with_reducible exact pcO_inl (by assumption)
      | with_reducible exact pcO_inr (by assumption)
      | with_reducible exact pcO_irl (by assumption)
      | with_reducible exact pcO_irr (by assumption)
      | with_reducible exact JB_readPrice_b62 (by assumption)
      | with_reducible refine pcO_ite (fun _ => ?_) (fun _ => ?_)
      | with_reducible refine pcO_bind (JB_readPrice_b62 (by assumption)) (fun _ _ => ?_)
      | with_reducible exact JB_mast (by assumption)
      | with_reducible refine pcO_bind (JB_mast (by assumption)) (fun _ _ => ?_)
      | with_reducible refine pcO_bind (pcO_some (JB_ms (by assumption) (by decide))) (fun _ _ => ?_)
      | with_reducible refine pcO_bind (pcO_some (JB_0 (by assumption))) (fun _ _ => ?_)
      | with_reducible refine pcO_any (pcO_sel (fun _ => ?_) (fun _ => ?_))
      | with_reducible refine pcO_any (fun _ => ?_)
theorem JB_readStatement_b149 {B : Int} {m : Mu} {s1 : Int} {s3 : Int} {s4 : Int} (h : JB B m) : pcO (m5_readStatement_b149 s1 s3 s4 m) (JB B) := by
    unfold m5_readStatement_b149
    repeat' first
      | with_reducible exact pcO_none
      | with_reducible exact pcO_some (by assumption)
      | with_reducible exact pcO_inl (by assumption)
      | with_reducible exact pcO_inr (by assumption)
      | with_reducible exact pcO_irl (by assumption)
      | with_reducible exact pcO_irr (by assumption)
      | with_reducible exact JB_wantsNumber (by assumption)
      | with_reducible exact JB_wantsSign (by assumption)
      | with_reducible refine pcO_ite (fun _ => ?_) (fun _ => ?_)
      | with_reducible refine pcO_bind (JB_wantsNumber (by assumption)) (fun _ _ => ?_)
      | with_reducible refine pcO_bind (JB_wantsSign (by assumption)) (fun _ _ => ?_)
      | with_reducible exact JB_mast (by assumption)
      | with_reducible refine pcO_bind (JB_mast (by assumption)) (fun _ _ => ?_)
      | with_reducible refine pcO_bind (pcO_some (JB_ms (by assumption) (by decide))) (fun _ _ => ?_)
      | with_reducible refine pcO_bind (pcO_some (JB_0 (by assumption))) (fun _ _ => ?_)
      | with_reducible refine pcO_any (pcO_sel (fun _ => ?_) (fun _ => ?_))
      | with_reducible refine pcO_any (fun _ => ?_)
theorem JB_readStatement_b104 {B : Int} {m : Mu} {v1 : Int} {s0 : Int} (h : JB B m) : pcO (m5_readStatement_b104 v1 s0 m) (JB B) := by
    unfold m5_readStatement_b104
    repeat' first
      | with_reducible exact pcO_none
      | with_reducible exact pcO_some (by assumption)
      | with_reducible exact pcO_inl (by assumption)
      | with_reducible exact pcO_inr (by assumption)
      | with_reducible exact pcO_irl (by assumption)
      | with_reducible exact pcO_irr (by assumption)
      | with_reducible exact JB_next (by assumption)
      | with_reducible exact JB_readStatement_b149 (by assumption)
      | with_reducible exact JB_wrong (by assumption)
      | with_reducible refine pcO_ite (fun _ => ?_) (fun _ => ?_)
      | with_reducible refine pcO_bind (JB_next (by assumption)) (fun _ _ => ?_)
      | with_reducible refine pcO_bind (JB_readStatement_b149 (by assumption)) (fun _ _ => ?_)
      | with_reducible refine pcO_bind (JB_wrong (by assumption)) (fun _ _ => ?_)
      | with_reducible exact JB_mast (by assumption)
      | with_reducible refine pcO_bind (JB_mast (by assumption)) (fun _ _ => ?_)
      | with_reducible refine pcO_bind (pcO_some (JB_ms (by assumption) (by decide))) (fun _ _ => ?_)
      | with_reducible refine pcO_bind (pcO_some (JB_0 (by assumption))) (fun _ _ => ?_)
      | with_reducible refine pcO_any (pcO_sel (fun _ => ?_) (fun _ => ?_))
      | with_reducible refine pcO_any (fun _ => ?_)
theorem JB_readStatement_b93 {B : Int} {m : Mu} {v1 : Int} (h : JB B m) : pcO (m5_readStatement_b93 v1 m) (JB B) := by
    unfold m5_readStatement_b93
    repeat' first
      | with_reducible exact pcO_none
      | with_reducible exact pcO_some (by assumption)
      | with_reducible exact pcO_inl (by assumption)
      | with_reducible exact pcO_inr (by assumption)
      | with_reducible exact pcO_irl (by assumption)
      | with_reducible exact pcO_irr (by assumption)
      | with_reducible exact JB_readStatement_b104 (by assumption)
      | with_reducible refine pcO_ite (fun _ => ?_) (fun _ => ?_)
      | with_reducible refine pcO_bind (JB_readStatement_b104 (by assumption)) (fun _ _ => ?_)
      | with_reducible exact JB_mast (by assumption)
      | with_reducible refine pcO_bind (JB_mast (by assumption)) (fun _ _ => ?_)
      | with_reducible refine pcO_bind (pcO_some (JB_ms (by assumption) (by decide))) (fun _ _ => ?_)
      | with_reducible refine pcO_bind (pcO_some (JB_0 (by assumption))) (fun _ _ => ?_)
      | with_reducible refine pcO_any (pcO_sel (fun _ => ?_) (fun _ => ?_))
      | with_reducible refine pcO_any (fun _ => ?_)
theorem JB_readStatement_b194 {B : Int} {m : Mu} (h : JB B m) : pcO (m5_readStatement_b194 m) (JB B) := by
    unfold m5_readStatement_b194
    repeat' first
      | with_reducible exact pcO_none
      | with_reducible exact pcO_some (by assumption)
      | with_reducible exact pcO_inl (by assumption)
      | with_reducible exact pcO_inr (by assumption)
      | with_reducible exact pcO_irl (by assumption)
      | with_reducible exact pcO_irr (by assumption)
      | with_reducible exact JB_cannot (by assumption)
      | with_reducible refine pcO_ite (fun _ => ?_) (fun _ => ?_)
      | with_reducible refine pcO_bind (JB_cannot (by assumption)) (fun _ _ => ?_)
      | with_reducible exact JB_mast (by assumption)
      | with_reducible refine pcO_bind (JB_mast (by assumption)) (fun _ _ => ?_)
      | with_reducible refine pcO_bind (pcO_some (JB_ms (by assumption) (by decide))) (fun _ _ => ?_)
      | with_reducible refine pcO_bind (pcO_some (JB_0 (by assumption))) (fun _ _ => ?_)
      | with_reducible refine pcO_any (pcO_sel (fun _ => ?_) (fun _ => ?_))
      | with_reducible refine pcO_any (fun _ => ?_)
theorem JB_readStatement {B : Int} {m : Mu} (h : JB B m) : pcO (m5_readStatement m) (JB B) := by
    unfold m5_readStatement
    repeat' first
      | with_reducible exact pcO_none
      | with_reducible exact pcO_some (by assumption)
      | with_reducible exact pcO_inl (by assumption)
      | with_reducible exact pcO_inr (by assumption)
      | with_reducible exact pcO_irl (by assumption)
      | with_reducible exact pcO_irr (by assumption)
      | with_reducible exact JB_next (by assumption)
      | with_reducible exact JB_readFact (by assumption)
      | with_reducible exact JB_readMean (by assumption)
      | with_reducible exact JB_readStatement_b93 (by assumption)
      | with_reducible exact JB_readMost (by assumption)
      | with_reducible exact JB_readStatement_b194 (by assumption)
      | with_reducible exact JB_readPrice (by assumption)
      | with_reducible exact JB_wrong (by assumption)
      | with_reducible exact JB_readClause (by assumption)
      | with_reducible exact JB_cannot (by assumption)
      | with_reducible refine pcO_ite (fun _ => ?_) (fun _ => ?_)
      | with_reducible refine pcO_bind (JB_next (by assumption)) (fun _ _ => ?_)
      | with_reducible refine pcO_bind (JB_readFact (by assumption)) (fun _ _ => ?_)
      | with_reducible refine pcO_bind (JB_readMean (by assumption)) (fun _ _ => ?_)
      | with_reducible refine pcO_bind (JB_readStatement_b93 (by assumption)) (fun _ _ => ?_)
      | with_reducible refine pcO_bind (JB_readMost (by assumption)) (fun _ _ => ?_)
      | with_reducible refine pcO_bind (JB_readStatement_b194 (by assumption)) (fun _ _ => ?_)
      | with_reducible refine pcO_bind (JB_readPrice (by assumption)) (fun _ _ => ?_)
      | with_reducible refine pcO_bind (JB_wrong (by assumption)) (fun _ _ => ?_)
      | with_reducible refine pcO_bind (JB_readClause (by assumption)) (fun _ _ => ?_)
      | with_reducible refine pcO_bind (JB_cannot (by assumption)) (fun _ _ => ?_)
      | with_reducible exact JB_mast (by assumption)
      | with_reducible refine pcO_bind (JB_mast (by assumption)) (fun _ _ => ?_)
      | with_reducible refine pcO_bind (pcO_some (JB_ms (by assumption) (by decide))) (fun _ _ => ?_)
      | with_reducible refine pcO_bind (pcO_some (JB_0 (by assumption))) (fun _ _ => ?_)
      | with_reducible refine pcO_any (pcO_sel (fun _ => ?_) (fun _ => ?_))
      | with_reducible refine pcO_any (fun _ => ?_)
theorem JB_takeNodes_l3 {B : Int} {v1 : Int} {v3 : Int} : ∀ (n : Nat) (x0 : Int) (m : Mu), JB B m → pcO (m5_takeNodes_l3 v1 v3 n x0 m) (JB B) := by
    intro n
    induction n with
    | zero => intro x0 m h; exact pcO_none
    | succ n ih =>
      intro x0 m h
      unfold m5_takeNodes_l3
      repeat' first
        | with_reducible exact pcO_none
        | with_reducible exact pcO_some (by assumption)
        | with_reducible exact pcO_inl (by assumption)
        | with_reducible exact pcO_inr (by assumption)
        | with_reducible exact pcO_irl (by assumption)
        | with_reducible exact pcO_irr (by assumption)
        | with_reducible exact ih _ _ (by assumption)
        | with_reducible refine pcO_ite (fun _ => ?_) (fun _ => ?_)
        | with_reducible exact JB_mast (by assumption)
        | with_reducible refine pcO_bind (JB_mast (by assumption)) (fun _ _ => ?_)
        | with_reducible refine pcO_bind (pcO_some (JB_ms (by assumption) (by decide))) (fun _ _ => ?_)
        | with_reducible refine pcO_bind (pcO_some (JB_0 (by assumption))) (fun _ _ => ?_)
        | with_reducible refine pcO_any (pcO_sel (fun _ => ?_) (fun _ => ?_))
        | with_reducible refine pcO_any (fun _ => ?_)
theorem JB_takeNodes_l3' {B : Int} {n : Nat} {v1 : Int} {v3 : Int} {x0 : Int} {m : Mu} (h : JB B m) : pcO (m5_takeNodes_l3 v1 v3 n x0 m) (JB B) := JB_takeNodes_l3 n x0 m h
theorem JB_takeNodes {B : Int} {m : Mu} {v1 : Int} {v2 : Int} {v3 : Int} (h : JB B m) : pcO (m5_takeNodes v1 v2 v3 m) (JB B) := by
    unfold m5_takeNodes
    repeat' first
      | with_reducible exact pcO_none
      | with_reducible exact pcO_some (by assumption)
      | with_reducible exact pcO_inl (by assumption)
      | with_reducible exact pcO_inr (by assumption)
      | with_reducible exact pcO_irl (by assumption)
      | with_reducible exact pcO_irr (by assumption)
      | with_reducible exact JB_takeNodes_l3' (by assumption)
      | with_reducible refine pcO_ite (fun _ => ?_) (fun _ => ?_)
      | with_reducible refine pcO_bind (JB_takeNodes_l3' (by assumption)) (fun _ _ => ?_)
      | with_reducible exact JB_mast (by assumption)
      | with_reducible refine pcO_bind (JB_mast (by assumption)) (fun _ _ => ?_)
      | with_reducible refine pcO_bind (pcO_some (JB_ms (by assumption) (by decide))) (fun _ _ => ?_)
      | with_reducible refine pcO_bind (pcO_some (JB_0 (by assumption))) (fun _ _ => ?_)
      | with_reducible refine pcO_any (pcO_sel (fun _ => ?_) (fun _ => ?_))
      | with_reducible refine pcO_any (fun _ => ?_)
theorem JB_wording_l25 {B : Int} : ∀ (n : Nat) (m : Mu), JB B m → pcO (m5_wording_l25  n  m) (JB B) := by
    intro n
    induction n with
    | zero => intro  m h; exact pcO_none
    | succ n ih =>
      intro  m h
      unfold m5_wording_l25
      repeat' first
        | with_reducible exact pcO_none
        | with_reducible exact pcO_some (by assumption)
        | with_reducible exact pcO_inl (by assumption)
        | with_reducible exact pcO_inr (by assumption)
        | with_reducible exact pcO_irl (by assumption)
        | with_reducible exact pcO_irr (by assumption)
        | with_reducible exact ih _ (by assumption)
        | with_reducible exact JB_readStatement (by assumption)
        | with_reducible refine pcO_ite (fun _ => ?_) (fun _ => ?_)
        | with_reducible refine pcO_bind (JB_readStatement (by assumption)) (fun _ _ => ?_)
        | with_reducible exact JB_mast (by assumption)
        | with_reducible refine pcO_bind (JB_mast (by assumption)) (fun _ _ => ?_)
        | with_reducible refine pcO_bind (pcO_some (JB_ms (by assumption) (by decide))) (fun _ _ => ?_)
        | with_reducible refine pcO_bind (pcO_some (JB_0 (by assumption))) (fun _ _ => ?_)
        | with_reducible refine pcO_any (pcO_sel (fun _ => ?_) (fun _ => ?_))
        | with_reducible refine pcO_any (fun _ => ?_)
theorem JB_wording_l25' {B : Int} {n : Nat} {m : Mu} (h : JB B m) : pcO (m5_wording_l25  n  m) (JB B) := JB_wording_l25 n  m h
theorem JB_wording_b286 {B : Int} {m : Mu} {v1 : Int} {v2 : Int} (h : JB B m) : pcO (m5_wording_b286 v1 v2 m) (fun r : Int × Mu => JB B r.2) := by
    unfold m5_wording_b286
    repeat' first
      | with_reducible exact pcO_none
      | with_reducible exact pcO_some (by assumption)
      | with_reducible exact pcO_inl (by assumption)
      | with_reducible exact pcO_inr (by assumption)
      | with_reducible exact pcO_irl (by assumption)
      | with_reducible exact pcO_irr (by assumption)
      | with_reducible refine pcO_ite (fun _ => ?_) (fun _ => ?_)
      | with_reducible exact JB_mast (by assumption)
      | with_reducible refine pcO_bind (JB_mast (by assumption)) (fun _ _ => ?_)
      | with_reducible refine pcO_bind (pcO_some (JB_ms (by assumption) (by decide))) (fun _ _ => ?_)
      | with_reducible refine pcO_bind (pcO_some (JB_0 (by assumption))) (fun _ _ => ?_)
      | with_reducible refine pcO_any (pcO_sel (fun _ => ?_) (fun _ => ?_))
      | with_reducible refine pcO_any (fun _ => ?_)
theorem JB_wording_b267 {B : Int} {m : Mu} {v1 : Int} (h : JB B m) : pcO (m5_wording_b267 v1 m) (fun r : Int × Mu => JB B r.2) := by
    unfold m5_wording_b267
    repeat' first
      | with_reducible exact pcO_none
      | with_reducible exact pcO_some (by assumption)
      | with_reducible exact pcO_inl (by assumption)
      | with_reducible exact pcO_inr (by assumption)
      | with_reducible exact pcO_irl (by assumption)
      | with_reducible exact pcO_irr (by assumption)
      | with_reducible exact JB_ended (by assumption)
      | with_reducible exact JB_wording_b286 (by assumption)
      | with_reducible refine pcO_ite (fun _ => ?_) (fun _ => ?_)
      | with_reducible refine pcO_bind (JB_ended (by assumption)) (fun _ _ => ?_)
      | with_reducible refine pcO_bind (JB_wording_b286 (by assumption)) (fun _ _ => ?_)
      | with_reducible exact JB_mast (by assumption)
      | with_reducible refine pcO_bind (JB_mast (by assumption)) (fun _ _ => ?_)
      | with_reducible refine pcO_bind (pcO_some (JB_ms (by assumption) (by decide))) (fun _ _ => ?_)
      | with_reducible refine pcO_bind (pcO_some (JB_0 (by assumption))) (fun _ _ => ?_)
      | with_reducible refine pcO_any (pcO_sel (fun _ => ?_) (fun _ => ?_))
      | with_reducible refine pcO_any (fun _ => ?_)
theorem JB_wording_l83 {B : Int} {v1 : Int} : ∀ (n : Nat) (x0 : Int) (m : Mu), JB B m → pcO (m5_wording_l83 v1 n x0 m) (JB B) := by
    intro n
    induction n with
    | zero => intro x0 m h; exact pcO_none
    | succ n ih =>
      intro x0 m h
      unfold m5_wording_l83
      repeat' first
        | with_reducible exact pcO_none
        | with_reducible exact pcO_some (by assumption)
        | with_reducible exact pcO_inl (by assumption)
        | with_reducible exact pcO_inr (by assumption)
        | with_reducible exact pcO_irl (by assumption)
        | with_reducible exact pcO_irr (by assumption)
        | with_reducible exact ih _ _ (by assumption)
        | with_reducible refine pcO_ite (fun _ => ?_) (fun _ => ?_)
        | with_reducible exact JB_mast (by assumption)
        | with_reducible refine pcO_bind (JB_mast (by assumption)) (fun _ _ => ?_)
        | with_reducible refine pcO_bind (pcO_some (JB_ms (by assumption) (by decide))) (fun _ _ => ?_)
        | with_reducible refine pcO_bind (pcO_some (JB_0 (by assumption))) (fun _ _ => ?_)
        | with_reducible refine pcO_any (pcO_sel (fun _ => ?_) (fun _ => ?_))
        | with_reducible refine pcO_any (fun _ => ?_)
theorem JB_wording_l83' {B : Int} {n : Nat} {v1 : Int} {x0 : Int} {m : Mu} (h : JB B m) : pcO (m5_wording_l83 v1 n x0 m) (JB B) := JB_wording_l83 n x0 m h
theorem JB_wording_l145 {B : Int} {v1 : Int} : ∀ (n : Nat) (x0 : Int) (m : Mu), JB B m → pcO (m5_wording_l145 v1 n x0 m) (JB B) := by
    intro n
    induction n with
    | zero => intro x0 m h; exact pcO_none
    | succ n ih =>
      intro x0 m h
      unfold m5_wording_l145
      repeat' first
        | with_reducible exact pcO_none
        | with_reducible exact pcO_some (by assumption)
        | with_reducible exact pcO_inl (by assumption)
        | with_reducible exact pcO_inr (by assumption)
        | with_reducible exact pcO_irl (by assumption)
        | with_reducible exact pcO_irr (by assumption)
        | with_reducible exact ih _ _ (by assumption)
        | with_reducible refine pcO_ite (fun _ => ?_) (fun _ => ?_)
        | with_reducible exact JB_mast (by assumption)
        | with_reducible refine pcO_bind (JB_mast (by assumption)) (fun _ _ => ?_)
        | with_reducible refine pcO_bind (pcO_some (JB_ms (by assumption) (by decide))) (fun _ _ => ?_)
        | with_reducible refine pcO_bind (pcO_some (JB_0 (by assumption))) (fun _ _ => ?_)
        | with_reducible refine pcO_any (pcO_sel (fun _ => ?_) (fun _ => ?_))
        | with_reducible refine pcO_any (fun _ => ?_)
theorem JB_wording_l145' {B : Int} {n : Nat} {v1 : Int} {x0 : Int} {m : Mu} (h : JB B m) : pcO (m5_wording_l145 v1 n x0 m) (JB B) := JB_wording_l145 n x0 m h
theorem JB_wording_l212 {B : Int} {v1 : Int} : ∀ (n : Nat) (x0 : Int) (m : Mu), JB B m → pcO (m5_wording_l212 v1 n x0 m) (JB B) := by
    intro n
    induction n with
    | zero => intro x0 m h; exact pcO_none
    | succ n ih =>
      intro x0 m h
      unfold m5_wording_l212
      repeat' first
        | with_reducible exact pcO_none
        | with_reducible exact pcO_some (by assumption)
        | with_reducible exact pcO_inl (by assumption)
        | with_reducible exact pcO_inr (by assumption)
        | with_reducible exact pcO_irl (by assumption)
        | with_reducible exact pcO_irr (by assumption)
        | with_reducible exact ih _ _ (by assumption)
        | with_reducible refine pcO_ite (fun _ => ?_) (fun _ => ?_)
        | with_reducible exact JB_mast (by assumption)
        | with_reducible refine pcO_bind (JB_mast (by assumption)) (fun _ _ => ?_)
        | with_reducible refine pcO_bind (pcO_some (JB_ms (by assumption) (by decide))) (fun _ _ => ?_)
        | with_reducible refine pcO_bind (pcO_some (JB_0 (by assumption))) (fun _ _ => ?_)
        | with_reducible refine pcO_any (pcO_sel (fun _ => ?_) (fun _ => ?_))
        | with_reducible refine pcO_any (fun _ => ?_)
theorem JB_wording_l212' {B : Int} {n : Nat} {v1 : Int} {x0 : Int} {m : Mu} (h : JB B m) : pcO (m5_wording_l212 v1 n x0 m) (JB B) := JB_wording_l212 n x0 m h
theorem JB_wording_b46 {B : Int} {m : Mu} (h : JB B m) : pcO (m5_wording_b46 m) (fun r : Int × Mu => JB B r.2) := by
    unfold m5_wording_b46
    repeat' first
      | with_reducible exact pcO_none
      | with_reducible exact pcO_some (by assumption)
      | with_reducible exact pcO_inl (by assumption)
      | with_reducible exact pcO_inr (by assumption)
      | with_reducible exact pcO_irl (by assumption)
      | with_reducible exact pcO_irr (by assumption)
      | with_reducible exact JB_clear (by assumption)
      | with_reducible exact JB_copyWording (by assumption)
      | with_reducible exact JB_takeNodes (by assumption)
      | with_reducible exact JB_wording_l83' (by assumption)
      | with_reducible exact JB_wording_l145' (by assumption)
      | with_reducible exact JB_wording_l212' (by assumption)
      | with_reducible exact JB_finish (by assumption)
      | with_reducible exact JB_wording_b267 (by assumption)
      | with_reducible refine pcO_ite (fun _ => ?_) (fun _ => ?_)
      | with_reducible refine pcO_bind (JB_clear (by assumption)) (fun _ _ => ?_)
      | with_reducible refine pcO_bind (JB_copyWording (by assumption)) (fun _ _ => ?_)
      | with_reducible refine pcO_bind (JB_takeNodes (by assumption)) (fun _ _ => ?_)
      | with_reducible refine pcO_bind (JB_wording_l83' (by assumption)) (fun _ _ => ?_)
      | with_reducible refine pcO_bind (JB_wording_l145' (by assumption)) (fun _ _ => ?_)
      | with_reducible refine pcO_bind (JB_wording_l212' (by assumption)) (fun _ _ => ?_)
      | with_reducible refine pcO_bind (JB_finish (by assumption)) (fun _ _ => ?_)
      | with_reducible refine pcO_bind (JB_wording_b267 (by assumption)) (fun _ _ => ?_)
      | with_reducible exact JB_mast (by assumption)
      | with_reducible refine pcO_bind (JB_mast (by assumption)) (fun _ _ => ?_)
      | with_reducible refine pcO_bind (pcO_some (JB_ms (by assumption) (by decide))) (fun _ _ => ?_)
      | with_reducible refine pcO_bind (pcO_some (JB_0 (by assumption))) (fun _ _ => ?_)
      | with_reducible refine pcO_any (pcO_sel (fun _ => ?_) (fun _ => ?_))
      | with_reducible refine pcO_any (fun _ => ?_)
theorem JB_wording {B : Int} {m : Mu} (h : JB B m) : pcO (m5_wording m) (fun r : Int × Mu => JB B r.2) := by
    unfold m5_wording
    repeat' first
      | with_reducible exact pcO_none
      | with_reducible exact pcO_some (by assumption)
      | with_reducible exact pcO_inl (by assumption)
      | with_reducible exact pcO_inr (by assumption)
      | with_reducible exact pcO_irl (by assumption)
      | with_reducible exact pcO_irr (by assumption)
      | with_reducible exact JB_clear (by assumption)
      | with_reducible exact JB_beginText (by assumption)
      | with_reducible exact JB_wording_l25' (by assumption)
      | with_reducible exact JB_wording_b46 (by assumption)
      | with_reducible refine pcO_ite (fun _ => ?_) (fun _ => ?_)
      | with_reducible refine pcO_bind (JB_clear (by assumption)) (fun _ _ => ?_)
      | with_reducible refine pcO_bind (JB_beginText (by assumption)) (fun _ _ => ?_)
      | with_reducible refine pcO_bind (JB_wording_l25' (by assumption)) (fun _ _ => ?_)
      | with_reducible refine pcO_bind (JB_wording_b46 (by assumption)) (fun _ _ => ?_)
      | with_reducible exact JB_mast (by assumption)
      | with_reducible refine pcO_bind (JB_mast (by assumption)) (fun _ _ => ?_)
      | with_reducible refine pcO_bind (pcO_some (JB_ms (by assumption) (by decide))) (fun _ _ => ?_)
      | with_reducible refine pcO_bind (pcO_some (JB_0 (by assumption))) (fun _ _ => ?_)
      | with_reducible refine pcO_any (pcO_sel (fun _ => ?_) (fun _ => ?_))
      | with_reducible refine pcO_any (fun _ => ?_)
theorem JB_copyNodes_l3 {B : Int} {v1 : Int} {v2 : Int} {v4 : Int} : ∀ (n : Nat) (x0 : Int) (m : Mu), JB B m → pcO (m5_copyNodes_l3 v1 v2 v4 n x0 m) (JB B) := by
    intro n
    induction n with
    | zero => intro x0 m h; exact pcO_none
    | succ n ih =>
      intro x0 m h
      unfold m5_copyNodes_l3
      repeat' first
        | with_reducible exact pcO_none
        | with_reducible exact pcO_some (by assumption)
        | with_reducible exact pcO_inl (by assumption)
        | with_reducible exact pcO_inr (by assumption)
        | with_reducible exact pcO_irl (by assumption)
        | with_reducible exact pcO_irr (by assumption)
        | with_reducible exact ih _ _ (by assumption)
        | with_reducible refine pcO_ite (fun _ => ?_) (fun _ => ?_)
        | with_reducible exact JB_mast (by assumption)
        | with_reducible refine pcO_bind (JB_mast (by assumption)) (fun _ _ => ?_)
        | with_reducible refine pcO_bind (pcO_some (JB_ms (by assumption) (by decide))) (fun _ _ => ?_)
        | with_reducible refine pcO_bind (pcO_some (JB_0 (by assumption))) (fun _ _ => ?_)
        | with_reducible refine pcO_any (pcO_sel (fun _ => ?_) (fun _ => ?_))
        | with_reducible refine pcO_any (fun _ => ?_)
theorem JB_copyNodes_l3' {B : Int} {n : Nat} {v1 : Int} {v2 : Int} {v4 : Int} {x0 : Int} {m : Mu} (h : JB B m) : pcO (m5_copyNodes_l3 v1 v2 v4 n x0 m) (JB B) := JB_copyNodes_l3 n x0 m h
theorem JB_copyNodes {B : Int} {m : Mu} {v1 : Int} {v2 : Int} {v3 : Int} {v4 : Int} (h : JB B m) : pcO (m5_copyNodes v1 v2 v3 v4 m) (JB B) := by
    unfold m5_copyNodes
    repeat' first
      | with_reducible exact pcO_none
      | with_reducible exact pcO_some (by assumption)
      | with_reducible exact pcO_inl (by assumption)
      | with_reducible exact pcO_inr (by assumption)
      | with_reducible exact pcO_irl (by assumption)
      | with_reducible exact pcO_irr (by assumption)
      | with_reducible exact JB_copyNodes_l3' (by assumption)
      | with_reducible refine pcO_ite (fun _ => ?_) (fun _ => ?_)
      | with_reducible refine pcO_bind (JB_copyNodes_l3' (by assumption)) (fun _ _ => ?_)
      | with_reducible exact JB_mast (by assumption)
      | with_reducible refine pcO_bind (JB_mast (by assumption)) (fun _ _ => ?_)
      | with_reducible refine pcO_bind (pcO_some (JB_ms (by assumption) (by decide))) (fun _ _ => ?_)
      | with_reducible refine pcO_bind (pcO_some (JB_0 (by assumption))) (fun _ _ => ?_)
      | with_reducible refine pcO_any (pcO_sel (fun _ => ?_) (fun _ => ?_))
      | with_reducible refine pcO_any (fun _ => ?_)
theorem JB_putClause {B : Int} {m : Mu} {v1 : Int} {v2 : Int} (h : JB B m) : pcO (m5_putClause v1 v2 m) (JB B) := by
    unfold m5_putClause
    repeat' first
      | with_reducible exact pcO_none
      | with_reducible exact pcO_some (by assumption)
      | with_reducible exact pcO_inl (by assumption)
      | with_reducible exact pcO_inr (by assumption)
      | with_reducible exact pcO_irl (by assumption)
      | with_reducible exact pcO_irr (by assumption)
      | with_reducible exact JB_takeNodes (by assumption)
      | with_reducible refine pcO_ite (fun _ => ?_) (fun _ => ?_)
      | with_reducible refine pcO_bind (JB_takeNodes (by assumption)) (fun _ _ => ?_)
      | with_reducible exact JB_mast (by assumption)
      | with_reducible refine pcO_bind (JB_mast (by assumption)) (fun _ _ => ?_)
      | with_reducible refine pcO_bind (pcO_some (JB_ms (by assumption) (by decide))) (fun _ _ => ?_)
      | with_reducible refine pcO_bind (pcO_some (JB_0 (by assumption))) (fun _ _ => ?_)
      | with_reducible refine pcO_any (pcO_sel (fun _ => ?_) (fun _ => ?_))
      | with_reducible refine pcO_any (fun _ => ?_)
theorem JB_join_b243 {B : Int} {m : Mu} (h : JB B m) : pcO (m5_join_b243 m) (JB B) := by
    unfold m5_join_b243
    repeat' first
      | with_reducible exact pcO_none
      | with_reducible exact pcO_some (by assumption)
      | with_reducible exact pcO_inl (by assumption)
      | with_reducible exact pcO_inr (by assumption)
      | with_reducible exact pcO_irl (by assumption)
      | with_reducible exact pcO_irr (by assumption)
      | with_reducible exact JB_wrong (by assumption)
      | with_reducible refine pcO_ite (fun _ => ?_) (fun _ => ?_)
      | with_reducible refine pcO_bind (JB_wrong (by assumption)) (fun _ _ => ?_)
      | with_reducible exact JB_mast (by assumption)
      | with_reducible refine pcO_bind (JB_mast (by assumption)) (fun _ _ => ?_)
      | with_reducible refine pcO_bind (pcO_some (JB_ms (by assumption) (by decide))) (fun _ _ => ?_)
      | with_reducible refine pcO_bind (pcO_some (JB_0 (by assumption))) (fun _ _ => ?_)
      | with_reducible refine pcO_any (pcO_sel (fun _ => ?_) (fun _ => ?_))
      | with_reducible refine pcO_any (fun _ => ?_)
theorem JB_join_l264 {B : Int} {v1 : Int} {v2 : Int} : ∀ (n : Nat) (x0 : Int) (m : Mu), JB B m → pcO (m5_join_l264 v1 v2 n x0 m) (JB B) := by
    intro n
    induction n with
    | zero => intro x0 m h; exact pcO_none
    | succ n ih =>
      intro x0 m h
      unfold m5_join_l264
      repeat' first
        | with_reducible exact pcO_none
        | with_reducible exact pcO_some (by assumption)
        | with_reducible exact pcO_inl (by assumption)
        | with_reducible exact pcO_inr (by assumption)
        | with_reducible exact pcO_irl (by assumption)
        | with_reducible exact pcO_irr (by assumption)
        | with_reducible exact ih _ _ (by assumption)
        | with_reducible exact JB_copyNodes (by assumption)
        | with_reducible refine pcO_ite (fun _ => ?_) (fun _ => ?_)
        | with_reducible refine pcO_bind (JB_copyNodes (by assumption)) (fun _ _ => ?_)
        | with_reducible exact JB_mast (by assumption)
        | with_reducible refine pcO_bind (JB_mast (by assumption)) (fun _ _ => ?_)
        | with_reducible refine pcO_bind (pcO_some (JB_ms (by assumption) (by decide))) (fun _ _ => ?_)
        | with_reducible refine pcO_bind (pcO_some (JB_0 (by assumption))) (fun _ _ => ?_)
        | with_reducible refine pcO_any (pcO_sel (fun _ => ?_) (fun _ => ?_))
        | with_reducible refine pcO_any (fun _ => ?_)
theorem JB_join_l264' {B : Int} {n : Nat} {v1 : Int} {v2 : Int} {x0 : Int} {m : Mu} (h : JB B m) : pcO (m5_join_l264 v1 v2 n x0 m) (JB B) := JB_join_l264 n x0 m h
theorem JB_join_l350 {B : Int} {v1 : Int} {v2 : Int} : ∀ (n : Nat) (x0 : Int) (m : Mu), JB B m → pcO (m5_join_l350 v1 v2 n x0 m) (JB B) := by
    intro n
    induction n with
    | zero => intro x0 m h; exact pcO_none
    | succ n ih =>
      intro x0 m h
      unfold m5_join_l350
      repeat' first
        | with_reducible exact pcO_none
        | with_reducible exact pcO_some (by assumption)
        | with_reducible exact pcO_inl (by assumption)
        | with_reducible exact pcO_inr (by assumption)
        | with_reducible exact pcO_irl (by assumption)
        | with_reducible exact pcO_irr (by assumption)
        | with_reducible exact ih _ _ (by assumption)
        | with_reducible exact JB_copyNodes (by assumption)
        | with_reducible exact JB_putClause (by assumption)
        | with_reducible refine pcO_ite (fun _ => ?_) (fun _ => ?_)
        | with_reducible refine pcO_bind (JB_copyNodes (by assumption)) (fun _ _ => ?_)
        | with_reducible refine pcO_bind (JB_putClause (by assumption)) (fun _ _ => ?_)
        | with_reducible exact JB_mast (by assumption)
        | with_reducible refine pcO_bind (JB_mast (by assumption)) (fun _ _ => ?_)
        | with_reducible refine pcO_bind (pcO_some (JB_ms (by assumption) (by decide))) (fun _ _ => ?_)
        | with_reducible refine pcO_bind (pcO_some (JB_0 (by assumption))) (fun _ _ => ?_)
        | with_reducible refine pcO_any (pcO_sel (fun _ => ?_) (fun _ => ?_))
        | with_reducible refine pcO_any (fun _ => ?_)
theorem JB_join_l350' {B : Int} {n : Nat} {v1 : Int} {v2 : Int} {x0 : Int} {m : Mu} (h : JB B m) : pcO (m5_join_l350 v1 v2 n x0 m) (JB B) := JB_join_l350 n x0 m h
theorem JB_join_l518 {B : Int} {v1 : Int} {v2 : Int} : ∀ (n : Nat) (x0 : Int) (m : Mu), JB B m → pcO (m5_join_l518 v1 v2 n x0 m) (JB B) := by
    intro n
    induction n with
    | zero => intro x0 m h; exact pcO_none
    | succ n ih =>
      intro x0 m h
      unfold m5_join_l518
      repeat' first
        | with_reducible exact pcO_none
        | with_reducible exact pcO_some (by assumption)
        | with_reducible exact pcO_inl (by assumption)
        | with_reducible exact pcO_inr (by assumption)
        | with_reducible exact pcO_irl (by assumption)
        | with_reducible exact pcO_irr (by assumption)
        | with_reducible exact ih _ _ (by assumption)
        | with_reducible exact JB_putClause (by assumption)
        | with_reducible refine pcO_ite (fun _ => ?_) (fun _ => ?_)
        | with_reducible refine pcO_bind (JB_putClause (by assumption)) (fun _ _ => ?_)
        | with_reducible exact JB_mast (by assumption)
        | with_reducible refine pcO_bind (JB_mast (by assumption)) (fun _ _ => ?_)
        | with_reducible refine pcO_bind (pcO_some (JB_ms (by assumption) (by decide))) (fun _ _ => ?_)
        | with_reducible refine pcO_bind (pcO_some (JB_0 (by assumption))) (fun _ _ => ?_)
        | with_reducible refine pcO_any (pcO_sel (fun _ => ?_) (fun _ => ?_))
        | with_reducible refine pcO_any (fun _ => ?_)
theorem JB_join_l518' {B : Int} {n : Nat} {v1 : Int} {v2 : Int} {x0 : Int} {m : Mu} (h : JB B m) : pcO (m5_join_l518 v1 v2 n x0 m) (JB B) := JB_join_l518 n x0 m h
theorem JB_join_l553 {B : Int} {v1 : Int} {v2 : Int} : ∀ (n : Nat) (x0 : Int) (m : Mu), JB B m → pcO (m5_join_l553 v1 v2 n x0 m) (JB B) := by
    intro n
    induction n with
    | zero => intro x0 m h; exact pcO_none
    | succ n ih =>
      intro x0 m h
      unfold m5_join_l553
      repeat' first
        | with_reducible exact pcO_none
        | with_reducible exact pcO_some (by assumption)
        | with_reducible exact pcO_inl (by assumption)
        | with_reducible exact pcO_inr (by assumption)
        | with_reducible exact pcO_irl (by assumption)
        | with_reducible exact pcO_irr (by assumption)
        | with_reducible exact ih _ _ (by assumption)
        | with_reducible exact JB_copyNodes (by assumption)
        | with_reducible refine pcO_ite (fun _ => ?_) (fun _ => ?_)
        | with_reducible refine pcO_bind (JB_copyNodes (by assumption)) (fun _ _ => ?_)
        | with_reducible exact JB_mast (by assumption)
        | with_reducible refine pcO_bind (JB_mast (by assumption)) (fun _ _ => ?_)
        | with_reducible refine pcO_bind (pcO_some (JB_ms (by assumption) (by decide))) (fun _ _ => ?_)
        | with_reducible refine pcO_bind (pcO_some (JB_0 (by assumption))) (fun _ _ => ?_)
        | with_reducible refine pcO_any (pcO_sel (fun _ => ?_) (fun _ => ?_))
        | with_reducible refine pcO_any (fun _ => ?_)
theorem JB_join_l553' {B : Int} {n : Nat} {v1 : Int} {v2 : Int} {x0 : Int} {m : Mu} (h : JB B m) : pcO (m5_join_l553 v1 v2 n x0 m) (JB B) := JB_join_l553 n x0 m h
theorem JB_join {B : Int} {m : Mu} {v1 : Int} {v2 : Int} (h : JB B m) : pcO (m5_join v1 v2 m) (JB B) := by
    unfold m5_join
    repeat' first
      | with_reducible exact pcO_none
      | with_reducible exact pcO_some (by assumption)
      | with_reducible exact pcO_inl (by assumption)
      | with_reducible exact pcO_inr (by assumption)
      | with_reducible exact pcO_irl (by assumption)
      | with_reducible exact pcO_irr (by assumption)
      | with_reducible exact JB_join_b243 (by assumption)
      | with_reducible exact JB_clear (by assumption)
      | with_reducible exact JB_copyWording (by assumption)
      | with_reducible exact JB_join_l264' (by assumption)
      | with_reducible exact JB_join_l350' (by assumption)
      | with_reducible exact JB_join_l518' (by assumption)
      | with_reducible exact JB_join_l553' (by assumption)
      | with_reducible exact JB_finish (by assumption)
      | with_reducible refine pcO_ite (fun _ => ?_) (fun _ => ?_)
      | with_reducible refine pcO_bind (JB_join_b243 (by assumption)) (fun _ _ => ?_)
      | with_reducible refine pcO_bind (JB_clear (by assumption)) (fun _ _ => ?_)
      | with_reducible refine pcO_bind (JB_copyWording (by assumption)) (fun _ _ => ?_)
      | with_reducible refine pcO_bind (JB_join_l264' (by assumption)) (fun _ _ => ?_)
      | with_reducible refine pcO_bind (JB_join_l350' (by assumption)) (fun _ _ => ?_)
      | with_reducible refine pcO_bind (JB_join_l518' (by assumption)) (fun _ _ => ?_)
      | with_reducible refine pcO_bind (JB_join_l553' (by assumption)) (fun _ _ => ?_)
      | with_reducible refine pcO_bind (JB_finish (by assumption)) (fun _ _ => ?_)
      | with_reducible exact JB_mast (by assumption)
      | with_reducible refine pcO_bind (JB_mast (by assumption)) (fun _ _ => ?_)
      | with_reducible refine pcO_bind (pcO_some (JB_ms (by assumption) (by decide))) (fun _ _ => ?_)
      | with_reducible refine pcO_bind (pcO_some (JB_0 (by assumption))) (fun _ _ => ?_)
      | with_reducible refine pcO_any (pcO_sel (fun _ => ?_) (fun _ => ?_))
      | with_reducible refine pcO_any (fun _ => ?_)
theorem JB_endorse_l37 {B : Int} {v1 : Int} : ∀ (n : Nat) (x0 : Int) (m : Mu), JB B m → pcO (m5_endorse_l37 v1 n x0 m) (JB B) := by
    intro n
    induction n with
    | zero => intro x0 m h; exact pcO_none
    | succ n ih =>
      intro x0 m h
      unfold m5_endorse_l37
      repeat' first
        | with_reducible exact pcO_none
        | with_reducible exact pcO_some (by assumption)
        | with_reducible exact pcO_inl (by assumption)
        | with_reducible exact pcO_inr (by assumption)
        | with_reducible exact pcO_irl (by assumption)
        | with_reducible exact pcO_irr (by assumption)
        | with_reducible exact ih _ _ (by assumption)
        | with_reducible refine pcO_ite (fun _ => ?_) (fun _ => ?_)
        | with_reducible exact JB_mast (by assumption)
        | with_reducible refine pcO_bind (JB_mast (by assumption)) (fun _ _ => ?_)
        | with_reducible refine pcO_bind (pcO_some (JB_ms (by assumption) (by decide))) (fun _ _ => ?_)
        | with_reducible refine pcO_bind (pcO_some (JB_0 (by assumption))) (fun _ _ => ?_)
        | with_reducible refine pcO_any (pcO_sel (fun _ => ?_) (fun _ => ?_))
        | with_reducible refine pcO_any (fun _ => ?_)
theorem JB_endorse_l37' {B : Int} {n : Nat} {v1 : Int} {x0 : Int} {m : Mu} (h : JB B m) : pcO (m5_endorse_l37 v1 n x0 m) (JB B) := JB_endorse_l37 n x0 m h
theorem JB_endorse_b207 {B : Int} {m : Mu} {v1 : Int} {v3 : Int} {s1 : Int} {s2 : Int} {kh : Mu → Option ((Mu) ⊕ (Mu))} (hk : ∀ (q : Mu), JB B q → pcO (kh  q) (Sum.elim (JB B) (JB B))) (h : JB B m) : pcO (m5_endorse_b207 kh v1 v3 s1 s2 m) (Sum.elim (JB B) (JB B)) := by
    unfold m5_endorse_b207
    repeat' first
      | with_reducible exact pcO_none
      | with_reducible exact pcO_some (by assumption)
      | with_reducible exact pcO_inl (by assumption)
      | with_reducible exact pcO_inr (by assumption)
      | with_reducible exact pcO_irl (by assumption)
      | with_reducible exact pcO_irr (by assumption)
      | with_reducible exact hk _ (by assumption)
      | with_reducible exact JB_cannot (by assumption)
      | with_reducible exact JB_readClause (by assumption)
      | with_reducible exact JB_wantsSign (by assumption)
      | with_reducible refine pcO_ite (fun _ => ?_) (fun _ => ?_)
      | with_reducible refine pcO_bind (JB_cannot (by assumption)) (fun _ _ => ?_)
      | with_reducible refine pcO_bind (JB_readClause (by assumption)) (fun _ _ => ?_)
      | with_reducible refine pcO_bind (JB_wantsSign (by assumption)) (fun _ _ => ?_)
      | with_reducible exact JB_mast (by assumption)
      | with_reducible refine pcO_bind (JB_mast (by assumption)) (fun _ _ => ?_)
      | with_reducible refine pcO_bind (pcO_some (JB_ms (by assumption) (by decide))) (fun _ _ => ?_)
      | with_reducible refine pcO_bind (pcO_some (JB_0 (by assumption))) (fun _ _ => ?_)
      | with_reducible refine pcO_any (pcO_sel (fun _ => ?_) (fun _ => ?_))
      | with_reducible refine pcO_any (fun _ => ?_)
theorem JB_endorse_b166 {B : Int} {m : Mu} {v1 : Int} {v3 : Int} {kh : Mu → Option ((Mu) ⊕ (Mu))} (hk : ∀ (q : Mu), JB B q → pcO (kh  q) (Sum.elim (JB B) (JB B))) (h : JB B m) : pcO (m5_endorse_b166 kh v1 v3 m) (Sum.elim (JB B) (JB B)) := by
    unfold m5_endorse_b166
    repeat' first
      | with_reducible exact pcO_none
      | with_reducible exact pcO_some (by assumption)
      | with_reducible exact pcO_inl (by assumption)
      | with_reducible exact pcO_inr (by assumption)
      | with_reducible exact pcO_irl (by assumption)
      | with_reducible exact pcO_irr (by assumption)
      | with_reducible exact hk _ (by assumption)
      | with_reducible exact JB_wantsNumber (by assumption)
      | with_reducible exact JB_endorse_b207 hk (by assumption)
      | with_reducible refine pcO_ite (fun _ => ?_) (fun _ => ?_)
      | with_reducible refine pcO_bind (JB_wantsNumber (by assumption)) (fun _ _ => ?_)
      | with_reducible exact JB_mast (by assumption)
      | with_reducible refine pcO_bind (JB_mast (by assumption)) (fun _ _ => ?_)
      | with_reducible refine pcO_bind (pcO_some (JB_ms (by assumption) (by decide))) (fun _ _ => ?_)
      | with_reducible refine pcO_bind (pcO_some (JB_0 (by assumption))) (fun _ _ => ?_)
      | with_reducible refine pcO_any (pcO_sel (fun _ => ?_) (fun _ => ?_))
      | with_reducible refine pcO_any (fun _ => ?_)
theorem JB_endorse_b161 {B : Int} {m : Mu} {v1 : Int} {v3 : Int} {kh : Mu → Option ((Mu) ⊕ (Mu))} (hk : ∀ (q : Mu), JB B q → pcO (kh  q) (Sum.elim (JB B) (JB B))) (h : JB B m) : pcO (m5_endorse_b161 kh v1 v3 m) (Sum.elim (JB B) (JB B)) := by
    unfold m5_endorse_b161
    repeat' first
      | with_reducible exact pcO_none
      | with_reducible exact pcO_some (by assumption)
      | with_reducible exact pcO_inl (by assumption)
      | with_reducible exact pcO_inr (by assumption)
      | with_reducible exact pcO_irl (by assumption)
      | with_reducible exact pcO_irr (by assumption)
      | with_reducible exact hk _ (by assumption)
      | with_reducible exact JB_wrong (by assumption)
      | with_reducible exact JB_endorse_b166 hk (by assumption)
      | with_reducible refine pcO_ite (fun _ => ?_) (fun _ => ?_)
      | with_reducible refine pcO_bind (JB_wrong (by assumption)) (fun _ _ => ?_)
      | with_reducible exact JB_mast (by assumption)
      | with_reducible refine pcO_bind (JB_mast (by assumption)) (fun _ _ => ?_)
      | with_reducible refine pcO_bind (pcO_some (JB_ms (by assumption) (by decide))) (fun _ _ => ?_)
      | with_reducible refine pcO_bind (pcO_some (JB_0 (by assumption))) (fun _ _ => ?_)
      | with_reducible refine pcO_any (pcO_sel (fun _ => ?_) (fun _ => ?_))
      | with_reducible refine pcO_any (fun _ => ?_)
theorem JB_endorse_b121 {B : Int} {m : Mu} {v1 : Int} {v3 : Int} {s0 : Int} {kh : Mu → Option ((Mu) ⊕ (Mu))} (hk : ∀ (q : Mu), JB B q → pcO (kh  q) (Sum.elim (JB B) (JB B))) (h : JB B m) : pcO (m5_endorse_b121 kh v1 v3 s0 m) (Sum.elim (JB B) (JB B)) := by
    unfold m5_endorse_b121
    repeat' first
      | with_reducible exact pcO_none
      | with_reducible exact pcO_some (by assumption)
      | with_reducible exact pcO_inl (by assumption)
      | with_reducible exact pcO_inr (by assumption)
      | with_reducible exact pcO_irl (by assumption)
      | with_reducible exact pcO_irr (by assumption)
      | with_reducible exact hk _ (by assumption)
      | with_reducible exact JB_endorse_b161 hk (by assumption)
      | with_reducible exact JB_endorse_b166 hk (by assumption)
      | with_reducible refine pcO_ite (fun _ => ?_) (fun _ => ?_)
      | with_reducible exact JB_mast (by assumption)
      | with_reducible refine pcO_bind (JB_mast (by assumption)) (fun _ _ => ?_)
      | with_reducible refine pcO_bind (pcO_some (JB_ms (by assumption) (by decide))) (fun _ _ => ?_)
      | with_reducible refine pcO_bind (pcO_some (JB_0 (by assumption))) (fun _ _ => ?_)
      | with_reducible refine pcO_any (pcO_sel (fun _ => ?_) (fun _ => ?_))
      | with_reducible refine pcO_any (fun _ => ?_)
theorem JB_endorse_b94 {B : Int} {m : Mu} {v1 : Int} {kh : Mu → Option ((Mu) ⊕ (Mu))} (hk : ∀ (q : Mu), JB B q → pcO (kh  q) (Sum.elim (JB B) (JB B))) (h : JB B m) : pcO (m5_endorse_b94 kh v1 m) (Sum.elim (JB B) (JB B)) := by
    unfold m5_endorse_b94
    repeat' first
      | with_reducible exact pcO_none
      | with_reducible exact pcO_some (by assumption)
      | with_reducible exact pcO_inl (by assumption)
      | with_reducible exact pcO_inr (by assumption)
      | with_reducible exact pcO_irl (by assumption)
      | with_reducible exact pcO_irr (by assumption)
      | with_reducible exact hk _ (by assumption)
      | with_reducible exact JB_next (by assumption)
      | with_reducible exact JB_endorse_b121 hk (by assumption)
      | with_reducible refine pcO_ite (fun _ => ?_) (fun _ => ?_)
      | with_reducible refine pcO_bind (JB_next (by assumption)) (fun _ _ => ?_)
      | with_reducible exact JB_mast (by assumption)
      | with_reducible refine pcO_bind (JB_mast (by assumption)) (fun _ _ => ?_)
      | with_reducible refine pcO_bind (pcO_some (JB_ms (by assumption) (by decide))) (fun _ _ => ?_)
      | with_reducible refine pcO_bind (pcO_some (JB_0 (by assumption))) (fun _ _ => ?_)
      | with_reducible refine pcO_any (pcO_sel (fun _ => ?_) (fun _ => ?_))
      | with_reducible refine pcO_any (fun _ => ?_)
theorem JB_endorse_l62 {B : Int} {v1 : Int} : ∀ (n : Nat) (m : Mu), JB B m → pcO (m5_endorse_l62 v1 n  m) (Sum.elim (JB B) (JB B)) := by
    intro n
    induction n with
    | zero => intro  m h; exact pcO_none
    | succ n ih =>
      intro  m h
      unfold m5_endorse_l62
      repeat' first
        | with_reducible exact pcO_none
        | with_reducible exact pcO_some (by assumption)
        | with_reducible exact pcO_inl (by assumption)
        | with_reducible exact pcO_inr (by assumption)
        | with_reducible exact pcO_irl (by assumption)
        | with_reducible exact pcO_irr (by assumption)
        | with_reducible exact ih _ (by assumption)
        | with_reducible exact JB_cannot (by assumption)
        | with_reducible exact JB_readClause (by assumption)
        | with_reducible exact JB_endorse_b94 ih (by assumption)
        | with_reducible refine pcO_ite (fun _ => ?_) (fun _ => ?_)
        | with_reducible refine pcO_bind (JB_cannot (by assumption)) (fun _ _ => ?_)
        | with_reducible refine pcO_bind (JB_readClause (by assumption)) (fun _ _ => ?_)
        | with_reducible exact JB_mast (by assumption)
        | with_reducible refine pcO_bind (JB_mast (by assumption)) (fun _ _ => ?_)
        | with_reducible refine pcO_bind (pcO_some (JB_ms (by assumption) (by decide))) (fun _ _ => ?_)
        | with_reducible refine pcO_bind (pcO_some (JB_0 (by assumption))) (fun _ _ => ?_)
        | with_reducible refine pcO_any (pcO_sel (fun _ => ?_) (fun _ => ?_))
        | with_reducible refine pcO_any (fun _ => ?_)
theorem JB_endorse_l62' {B : Int} {n : Nat} {v1 : Int} {m : Mu} (h : JB B m) : pcO (m5_endorse_l62 v1 n  m) (Sum.elim (JB B) (JB B)) := JB_endorse_l62 n  m h
theorem JB_endorse_b324 {B : Int} {m : Mu} {v3 : Int} {v4 : Int} (h : JB B m) : pcO (m5_endorse_b324 v3 v4 m) (fun r : Int × Mu => JB B r.2) := by
    unfold m5_endorse_b324
    repeat' first
      | with_reducible exact pcO_none
      | with_reducible exact pcO_some (by assumption)
      | with_reducible exact pcO_inl (by assumption)
      | with_reducible exact pcO_inr (by assumption)
      | with_reducible exact pcO_irl (by assumption)
      | with_reducible exact pcO_irr (by assumption)
      | with_reducible refine pcO_ite (fun _ => ?_) (fun _ => ?_)
      | with_reducible exact JB_mast (by assumption)
      | with_reducible refine pcO_bind (JB_mast (by assumption)) (fun _ _ => ?_)
      | with_reducible refine pcO_bind (pcO_some (JB_ms (by assumption) (by decide))) (fun _ _ => ?_)
      | with_reducible refine pcO_bind (pcO_some (JB_0 (by assumption))) (fun _ _ => ?_)
      | with_reducible refine pcO_any (pcO_sel (fun _ => ?_) (fun _ => ?_))
      | with_reducible refine pcO_any (fun _ => ?_)
theorem JB_endorse_b303 {B : Int} {m : Mu} {v3 : Int} (h : JB B m) : pcO (m5_endorse_b303 v3 m) (fun r : Int × Mu => JB B r.2) := by
    unfold m5_endorse_b303
    repeat' first
      | with_reducible exact pcO_none
      | with_reducible exact pcO_some (by assumption)
      | with_reducible exact pcO_inl (by assumption)
      | with_reducible exact pcO_inr (by assumption)
      | with_reducible exact pcO_irl (by assumption)
      | with_reducible exact pcO_irr (by assumption)
      | with_reducible exact JB_ended (by assumption)
      | with_reducible exact JB_endorse_b324 (by assumption)
      | with_reducible refine pcO_ite (fun _ => ?_) (fun _ => ?_)
      | with_reducible refine pcO_bind (JB_ended (by assumption)) (fun _ _ => ?_)
      | with_reducible refine pcO_bind (JB_endorse_b324 (by assumption)) (fun _ _ => ?_)
      | with_reducible exact JB_mast (by assumption)
      | with_reducible refine pcO_bind (JB_mast (by assumption)) (fun _ _ => ?_)
      | with_reducible refine pcO_bind (pcO_some (JB_ms (by assumption) (by decide))) (fun _ _ => ?_)
      | with_reducible refine pcO_bind (pcO_some (JB_0 (by assumption))) (fun _ _ => ?_)
      | with_reducible refine pcO_any (pcO_sel (fun _ => ?_) (fun _ => ?_))
      | with_reducible refine pcO_any (fun _ => ?_)
theorem JB_endorse_b283 {B : Int} {m : Mu} {v1 : Int} (h : JB B m) : pcO (m5_endorse_b283 v1 m) (fun r : Int × Mu => JB B r.2) := by
    unfold m5_endorse_b283
    repeat' first
      | with_reducible exact pcO_none
      | with_reducible exact pcO_some (by assumption)
      | with_reducible exact pcO_inl (by assumption)
      | with_reducible exact pcO_inr (by assumption)
      | with_reducible exact pcO_irl (by assumption)
      | with_reducible exact pcO_irr (by assumption)
      | with_reducible exact JB_join (by assumption)
      | with_reducible exact JB_endorse_b303 (by assumption)
      | with_reducible refine pcO_ite (fun _ => ?_) (fun _ => ?_)
      | with_reducible refine pcO_bind (JB_join (by assumption)) (fun _ _ => ?_)
      | with_reducible refine pcO_bind (JB_endorse_b303 (by assumption)) (fun _ _ => ?_)
      | with_reducible exact JB_mast (by assumption)
      | with_reducible refine pcO_bind (JB_mast (by assumption)) (fun _ _ => ?_)
      | with_reducible refine pcO_bind (pcO_some (JB_ms (by assumption) (by decide))) (fun _ _ => ?_)
      | with_reducible refine pcO_bind (pcO_some (JB_0 (by assumption))) (fun _ _ => ?_)
      | with_reducible refine pcO_any (pcO_sel (fun _ => ?_) (fun _ => ?_))
      | with_reducible refine pcO_any (fun _ => ?_)
theorem JB_endorse {B : Int} {m : Mu} {v1 : Int} (h : JB B m) : pcO (m5_endorse v1 m) (fun r : Int × Mu => JB B r.2) := by
    unfold m5_endorse
    repeat' first
      | with_reducible exact pcO_none
      | with_reducible exact pcO_some (by assumption)
      | with_reducible exact pcO_inl (by assumption)
      | with_reducible exact pcO_inr (by assumption)
      | with_reducible exact pcO_irl (by assumption)
      | with_reducible exact pcO_irr (by assumption)
      | with_reducible exact JB_beginText (by assumption)
      | with_reducible exact JB_endorse_l37' (by assumption)
      | with_reducible exact JB_endorse_l62' (by assumption)
      | with_reducible exact JB_endorse_b283 (by assumption)
      | with_reducible refine pcO_ite (fun _ => ?_) (fun _ => ?_)
      | with_reducible refine pcO_bind (JB_beginText (by assumption)) (fun _ _ => ?_)
      | with_reducible refine pcO_bind (JB_endorse_l37' (by assumption)) (fun _ _ => ?_)
      | with_reducible refine pcO_s2 (JB_endorse_l62' (by assumption)) (fun _ _ => ?_) (fun _ _ => ?_)
      | with_reducible refine pcO_bind (JB_endorse_b283 (by assumption)) (fun _ _ => ?_)
      | with_reducible exact JB_mast (by assumption)
      | with_reducible refine pcO_bind (JB_mast (by assumption)) (fun _ _ => ?_)
      | with_reducible refine pcO_bind (pcO_some (JB_ms (by assumption) (by decide))) (fun _ _ => ?_)
      | with_reducible refine pcO_bind (pcO_some (JB_0 (by assumption))) (fun _ _ => ?_)
      | with_reducible refine pcO_any (pcO_sel (fun _ => ?_) (fun _ => ?_))
      | with_reducible refine pcO_any (fun _ => ?_)
theorem JB_putBoth_l67 {B : Int} {v1 : Int} {v2 : Int} {v4 : Int} : ∀ (n : Nat) (x0 : Int) (m : Mu), JB B m → pcO (m5_putBoth_l67 v1 v2 v4 n x0 m) (JB B) := by
    intro n
    induction n with
    | zero => intro x0 m h; exact pcO_none
    | succ n ih =>
      intro x0 m h
      unfold m5_putBoth_l67
      repeat' first
        | with_reducible exact pcO_none
        | with_reducible exact pcO_some (by assumption)
        | with_reducible exact pcO_inl (by assumption)
        | with_reducible exact pcO_inr (by assumption)
        | with_reducible exact pcO_irl (by assumption)
        | with_reducible exact pcO_irr (by assumption)
        | with_reducible exact ih _ _ (by assumption)
        | with_reducible refine pcO_ite (fun _ => ?_) (fun _ => ?_)
        | with_reducible exact JB_mast (by assumption)
        | with_reducible refine pcO_bind (JB_mast (by assumption)) (fun _ _ => ?_)
        | with_reducible refine pcO_bind (pcO_some (JB_ms (by assumption) (by decide))) (fun _ _ => ?_)
        | with_reducible refine pcO_bind (pcO_some (JB_0 (by assumption))) (fun _ _ => ?_)
        | with_reducible refine pcO_any (pcO_sel (fun _ => ?_) (fun _ => ?_))
        | with_reducible refine pcO_any (fun _ => ?_)
theorem JB_putBoth_l67' {B : Int} {n : Nat} {v1 : Int} {v2 : Int} {v4 : Int} {x0 : Int} {m : Mu} (h : JB B m) : pcO (m5_putBoth_l67 v1 v2 v4 n x0 m) (JB B) := JB_putBoth_l67 n x0 m h
theorem JB_putBoth_b64 {B : Int} {m : Mu} {v1 : Int} {v2 : Int} {v3 : Int} {v4 : Int} (h : JB B m) : pcO (m5_putBoth_b64 v1 v2 v3 v4 m) (JB B) := by
    unfold m5_putBoth_b64
    repeat' first
      | with_reducible exact pcO_none
      | with_reducible exact pcO_some (by assumption)
      | with_reducible exact pcO_inl (by assumption)
      | with_reducible exact pcO_inr (by assumption)
      | with_reducible exact pcO_irl (by assumption)
      | with_reducible exact pcO_irr (by assumption)
      | with_reducible exact JB_putBoth_l67' (by assumption)
      | with_reducible refine pcO_ite (fun _ => ?_) (fun _ => ?_)
      | with_reducible refine pcO_bind (JB_putBoth_l67' (by assumption)) (fun _ _ => ?_)
      | with_reducible exact JB_mast (by assumption)
      | with_reducible refine pcO_bind (JB_mast (by assumption)) (fun _ _ => ?_)
      | with_reducible refine pcO_bind (pcO_some (JB_ms (by assumption) (by decide))) (fun _ _ => ?_)
      | with_reducible refine pcO_bind (pcO_some (JB_0 (by assumption))) (fun _ _ => ?_)
      | with_reducible refine pcO_any (pcO_sel (fun _ => ?_) (fun _ => ?_))
      | with_reducible refine pcO_any (fun _ => ?_)
theorem JB_putBoth_b40 {B : Int} {m : Mu} {v1 : Int} {v2 : Int} {v3 : Int} {v4 : Int} (h : JB B m) : pcO (m5_putBoth_b40 v1 v2 v3 v4 m) (JB B) := by
    unfold m5_putBoth_b40
    repeat' first
      | with_reducible exact pcO_none
      | with_reducible exact pcO_some (by assumption)
      | with_reducible exact pcO_inl (by assumption)
      | with_reducible exact pcO_inr (by assumption)
      | with_reducible exact pcO_irl (by assumption)
      | with_reducible exact pcO_irr (by assumption)
      | with_reducible exact JB_putBoth_b64 (by assumption)
      | with_reducible refine pcO_ite (fun _ => ?_) (fun _ => ?_)
      | with_reducible refine pcO_bind (JB_putBoth_b64 (by assumption)) (fun _ _ => ?_)
      | with_reducible exact JB_mast (by assumption)
      | with_reducible refine pcO_bind (JB_mast (by assumption)) (fun _ _ => ?_)
      | with_reducible refine pcO_bind (pcO_some (JB_ms (by assumption) (by decide))) (fun _ _ => ?_)
      | with_reducible refine pcO_bind (pcO_some (JB_0 (by assumption))) (fun _ _ => ?_)
      | with_reducible refine pcO_any (pcO_sel (fun _ => ?_) (fun _ => ?_))
      | with_reducible refine pcO_any (fun _ => ?_)
theorem JB_putBoth {B : Int} {m : Mu} {v1 : Int} {v2 : Int} (h : JB B m) : pcO (m5_putBoth v1 v2 m) (JB B) := by
    unfold m5_putBoth
    repeat' first
      | with_reducible exact pcO_none
      | with_reducible exact pcO_some (by assumption)
      | with_reducible exact pcO_inl (by assumption)
      | with_reducible exact pcO_inr (by assumption)
      | with_reducible exact pcO_irl (by assumption)
      | with_reducible exact pcO_irr (by assumption)
      | with_reducible exact JB_putBoth_b40 (by assumption)
      | with_reducible refine pcO_ite (fun _ => ?_) (fun _ => ?_)
      | with_reducible refine pcO_bind (JB_putBoth_b40 (by assumption)) (fun _ _ => ?_)
      | with_reducible exact JB_mast (by assumption)
      | with_reducible refine pcO_bind (JB_mast (by assumption)) (fun _ _ => ?_)
      | with_reducible refine pcO_bind (pcO_some (JB_ms (by assumption) (by decide))) (fun _ _ => ?_)
      | with_reducible refine pcO_bind (pcO_some (JB_0 (by assumption))) (fun _ _ => ?_)
      | with_reducible refine pcO_any (pcO_sel (fun _ => ?_) (fun _ => ?_))
      | with_reducible refine pcO_any (fun _ => ?_)
theorem JB_joinStarts_l27 {B : Int} {v1 : Int} {v2 : Int} {v3 : Int} {v5 : Int} : ∀ (n : Nat) (x0 : Int) (m : Mu), JB B m → pcO (m5_joinStarts_l27 v1 v2 v3 v5 n x0 m) (JB B) := by
    intro n
    induction n with
    | zero => intro x0 m h; exact pcO_none
    | succ n ih =>
      intro x0 m h
      unfold m5_joinStarts_l27
      repeat' first
        | with_reducible exact pcO_none
        | with_reducible exact pcO_some (by assumption)
        | with_reducible exact pcO_inl (by assumption)
        | with_reducible exact pcO_inr (by assumption)
        | with_reducible exact pcO_irl (by assumption)
        | with_reducible exact pcO_irr (by assumption)
        | with_reducible exact ih _ _ (by assumption)
        | with_reducible exact JB_putBoth (by assumption)
        | with_reducible refine pcO_ite (fun _ => ?_) (fun _ => ?_)
        | with_reducible refine pcO_bind (JB_putBoth (by assumption)) (fun _ _ => ?_)
        | with_reducible exact JB_mast (by assumption)
        | with_reducible refine pcO_bind (JB_mast (by assumption)) (fun _ _ => ?_)
        | with_reducible refine pcO_bind (pcO_some (JB_ms (by assumption) (by decide))) (fun _ _ => ?_)
        | with_reducible refine pcO_bind (pcO_some (JB_0 (by assumption))) (fun _ _ => ?_)
        | with_reducible refine pcO_any (pcO_sel (fun _ => ?_) (fun _ => ?_))
        | with_reducible refine pcO_any (fun _ => ?_)
theorem JB_joinStarts_l27' {B : Int} {n : Nat} {v1 : Int} {v2 : Int} {v3 : Int} {v5 : Int} {x0 : Int} {m : Mu} (h : JB B m) : pcO (m5_joinStarts_l27 v1 v2 v3 v5 n x0 m) (JB B) := JB_joinStarts_l27 n x0 m h
theorem JB_joinStarts_l78 {B : Int} {v1 : Int} {v2 : Int} {v3 : Int} {v5 : Int} : ∀ (n : Nat) (x0 : Int) (m : Mu), JB B m → pcO (m5_joinStarts_l78 v1 v2 v3 v5 n x0 m) (JB B) := by
    intro n
    induction n with
    | zero => intro x0 m h; exact pcO_none
    | succ n ih =>
      intro x0 m h
      unfold m5_joinStarts_l78
      repeat' first
        | with_reducible exact pcO_none
        | with_reducible exact pcO_some (by assumption)
        | with_reducible exact pcO_inl (by assumption)
        | with_reducible exact pcO_inr (by assumption)
        | with_reducible exact pcO_irl (by assumption)
        | with_reducible exact pcO_irr (by assumption)
        | with_reducible exact ih _ _ (by assumption)
        | with_reducible exact JB_putBoth (by assumption)
        | with_reducible refine pcO_ite (fun _ => ?_) (fun _ => ?_)
        | with_reducible refine pcO_bind (JB_putBoth (by assumption)) (fun _ _ => ?_)
        | with_reducible exact JB_mast (by assumption)
        | with_reducible refine pcO_bind (JB_mast (by assumption)) (fun _ _ => ?_)
        | with_reducible refine pcO_bind (pcO_some (JB_ms (by assumption) (by decide))) (fun _ _ => ?_)
        | with_reducible refine pcO_bind (pcO_some (JB_0 (by assumption))) (fun _ _ => ?_)
        | with_reducible refine pcO_any (pcO_sel (fun _ => ?_) (fun _ => ?_))
        | with_reducible refine pcO_any (fun _ => ?_)
theorem JB_joinStarts_l78' {B : Int} {n : Nat} {v1 : Int} {v2 : Int} {v3 : Int} {v5 : Int} {x0 : Int} {m : Mu} (h : JB B m) : pcO (m5_joinStarts_l78 v1 v2 v3 v5 n x0 m) (JB B) := JB_joinStarts_l78 n x0 m h
theorem JB_joinStarts_l5 {B : Int} {v1 : Int} {v2 : Int} : ∀ (n : Nat) (x0 : Int) (x1 : Int) (m : Mu), JB B m → pcO (m5_joinStarts_l5 v1 v2 n x0 x1 m) (fun r : Int × Mu => JB B r.2) := by
    intro n
    induction n with
    | zero => intro x0 x1 m h; exact pcO_none
    | succ n ih =>
      intro x0 x1 m h
      unfold m5_joinStarts_l5
      repeat' first
        | with_reducible exact pcO_none
        | with_reducible exact pcO_some (by assumption)
        | with_reducible exact pcO_inl (by assumption)
        | with_reducible exact pcO_inr (by assumption)
        | with_reducible exact pcO_irl (by assumption)
        | with_reducible exact pcO_irr (by assumption)
        | with_reducible exact ih _ _ _ (by assumption)
        | with_reducible exact JB_joinStarts_l27' (by assumption)
        | with_reducible exact JB_joinStarts_l78' (by assumption)
        | with_reducible refine pcO_ite (fun _ => ?_) (fun _ => ?_)
        | with_reducible refine pcO_bind (JB_joinStarts_l27' (by assumption)) (fun _ _ => ?_)
        | with_reducible refine pcO_bind (JB_joinStarts_l78' (by assumption)) (fun _ _ => ?_)
        | with_reducible exact JB_mast (by assumption)
        | with_reducible refine pcO_bind (JB_mast (by assumption)) (fun _ _ => ?_)
        | with_reducible refine pcO_bind (pcO_some (JB_ms (by assumption) (by decide))) (fun _ _ => ?_)
        | with_reducible refine pcO_bind (pcO_some (JB_0 (by assumption))) (fun _ _ => ?_)
        | with_reducible refine pcO_any (pcO_sel (fun _ => ?_) (fun _ => ?_))
        | with_reducible refine pcO_any (fun _ => ?_)
theorem JB_joinStarts_l5' {B : Int} {n : Nat} {v1 : Int} {v2 : Int} {x0 : Int} {x1 : Int} {m : Mu} (h : JB B m) : pcO (m5_joinStarts_l5 v1 v2 n x0 x1 m) (fun r : Int × Mu => JB B r.2) := JB_joinStarts_l5 n x0 x1 m h
theorem JB_joinStarts_b171 {B : Int} {m : Mu} {v3 : Int} {s1 : Int} (h : JB B m) : pcO (m5_joinStarts_b171 v3 s1 m) (fun r : Int × Mu => JB B r.2) := by
    unfold m5_joinStarts_b171
    repeat' first
      | with_reducible exact pcO_none
      | with_reducible exact pcO_some (by assumption)
      | with_reducible exact pcO_inl (by assumption)
      | with_reducible exact pcO_inr (by assumption)
      | with_reducible exact pcO_irl (by assumption)
      | with_reducible exact pcO_irr (by assumption)
      | with_reducible refine pcO_ite (fun _ => ?_) (fun _ => ?_)
      | with_reducible exact JB_mast (by assumption)
      | with_reducible refine pcO_bind (JB_mast (by assumption)) (fun _ _ => ?_)
      | with_reducible refine pcO_bind (pcO_some (JB_ms (by assumption) (by decide))) (fun _ _ => ?_)
      | with_reducible refine pcO_bind (pcO_some (JB_0 (by assumption))) (fun _ _ => ?_)
      | with_reducible refine pcO_any (pcO_sel (fun _ => ?_) (fun _ => ?_))
      | with_reducible refine pcO_any (fun _ => ?_)
theorem JB_joinStarts {B : Int} {m : Mu} {v1 : Int} {v2 : Int} (h : JB B m) : pcO (m5_joinStarts v1 v2 m) (fun r : Int × Mu => JB B r.2) := by
    unfold m5_joinStarts
    repeat' first
      | with_reducible exact pcO_none
      | with_reducible exact pcO_some (by assumption)
      | with_reducible exact pcO_inl (by assumption)
      | with_reducible exact pcO_inr (by assumption)
      | with_reducible exact pcO_irl (by assumption)
      | with_reducible exact pcO_irr (by assumption)
      | with_reducible exact JB_joinStarts_l5' (by assumption)
      | with_reducible exact JB_joinStarts_b171 (by assumption)
      | with_reducible refine pcO_ite (fun _ => ?_) (fun _ => ?_)
      | with_reducible refine pcO_bind (JB_joinStarts_l5' (by assumption)) (fun _ _ => ?_)
      | with_reducible refine pcO_bind (JB_joinStarts_b171 (by assumption)) (fun _ _ => ?_)
      | with_reducible exact JB_mast (by assumption)
      | with_reducible refine pcO_bind (JB_mast (by assumption)) (fun _ _ => ?_)
      | with_reducible refine pcO_bind (pcO_some (JB_ms (by assumption) (by decide))) (fun _ _ => ?_)
      | with_reducible refine pcO_bind (pcO_some (JB_0 (by assumption))) (fun _ _ => ?_)
      | with_reducible refine pcO_any (pcO_sel (fun _ => ?_) (fun _ => ?_))
      | with_reducible refine pcO_any (fun _ => ?_)
theorem JB_takeBoth_l7 {B : Int} : ∀ (n : Nat) (x0 : Int) (x1 : Int) (m : Mu), JB B m → pcO (m5_takeBoth_l7  n x0 x1 m) (JB B) := by
    intro n
    induction n with
    | zero => intro x0 x1 m h; exact pcO_none
    | succ n ih =>
      intro x0 x1 m h
      unfold m5_takeBoth_l7
      repeat' first
        | with_reducible exact pcO_none
        | with_reducible exact pcO_some (by assumption)
        | with_reducible exact pcO_inl (by assumption)
        | with_reducible exact pcO_inr (by assumption)
        | with_reducible exact pcO_irl (by assumption)
        | with_reducible exact pcO_irr (by assumption)
        | with_reducible exact ih _ _ _ (by assumption)
        | with_reducible refine pcO_ite (fun _ => ?_) (fun _ => ?_)
        | with_reducible exact JB_mast (by assumption)
        | with_reducible refine pcO_bind (JB_mast (by assumption)) (fun _ _ => ?_)
        | with_reducible refine pcO_bind (pcO_some (JB_ms (by assumption) (by decide))) (fun _ _ => ?_)
        | with_reducible refine pcO_bind (pcO_some (JB_0 (by assumption))) (fun _ _ => ?_)
        | with_reducible refine pcO_any (pcO_sel (fun _ => ?_) (fun _ => ?_))
        | with_reducible refine pcO_any (fun _ => ?_)
theorem JB_takeBoth_l7' {B : Int} {n : Nat} {x0 : Int} {x1 : Int} {m : Mu} (h : JB B m) : pcO (m5_takeBoth_l7  n x0 x1 m) (JB B) := JB_takeBoth_l7 n x0 x1 m h
theorem JB_takeBoth {B : Int} {m : Mu} {v1 : Int} {v2 : Int} (h : JB B m) : pcO (m5_takeBoth v1 v2 m) (JB B) := by
    unfold m5_takeBoth
    repeat' first
      | with_reducible exact pcO_none
      | with_reducible exact pcO_some (by assumption)
      | with_reducible exact pcO_inl (by assumption)
      | with_reducible exact pcO_inr (by assumption)
      | with_reducible exact pcO_irl (by assumption)
      | with_reducible exact pcO_irr (by assumption)
      | with_reducible exact JB_takeBoth_l7' (by assumption)
      | with_reducible refine pcO_ite (fun _ => ?_) (fun _ => ?_)
      | with_reducible refine pcO_bind (JB_takeBoth_l7' (by assumption)) (fun _ _ => ?_)
      | with_reducible exact JB_mast (by assumption)
      | with_reducible refine pcO_bind (JB_mast (by assumption)) (fun _ _ => ?_)
      | with_reducible refine pcO_bind (pcO_some (JB_ms (by assumption) (by decide))) (fun _ _ => ?_)
      | with_reducible refine pcO_bind (pcO_some (JB_0 (by assumption))) (fun _ _ => ?_)
      | with_reducible refine pcO_any (pcO_sel (fun _ => ?_) (fun _ => ?_))
      | with_reducible refine pcO_any (fun _ => ?_)
theorem JB_compare_l158 {B : Int} {v1 : Int} {v2 : Int} {v3 : Int} {v6 : Int} : ∀ (n : Nat) (x0 : Int) (m : Mu), JB B m → pcO (m5_compare_l158 v1 v2 v3 v6 n x0 m) (JB B) := by
    intro n
    induction n with
    | zero => intro x0 m h; exact pcO_none
    | succ n ih =>
      intro x0 m h
      unfold m5_compare_l158
      repeat' first
        | with_reducible exact pcO_none
        | with_reducible exact pcO_some (by assumption)
        | with_reducible exact pcO_inl (by assumption)
        | with_reducible exact pcO_inr (by assumption)
        | with_reducible exact pcO_irl (by assumption)
        | with_reducible exact pcO_irr (by assumption)
        | with_reducible exact ih _ _ (by assumption)
        | with_reducible refine pcO_ite (fun _ => ?_) (fun _ => ?_)
        | with_reducible exact JB_mast (by assumption)
        | with_reducible refine pcO_bind (JB_mast (by assumption)) (fun _ _ => ?_)
        | with_reducible refine pcO_bind (pcO_some (JB_ms (by assumption) (by decide))) (fun _ _ => ?_)
        | with_reducible refine pcO_bind (pcO_some (JB_0 (by assumption))) (fun _ _ => ?_)
        | with_reducible refine pcO_any (pcO_sel (fun _ => ?_) (fun _ => ?_))
        | with_reducible refine pcO_any (fun _ => ?_)
theorem JB_compare_l158' {B : Int} {n : Nat} {v1 : Int} {v2 : Int} {v3 : Int} {v6 : Int} {x0 : Int} {m : Mu} (h : JB B m) : pcO (m5_compare_l158 v1 v2 v3 v6 n x0 m) (JB B) := JB_compare_l158 n x0 m h
theorem JB_compare_b125 {B : Int} {m : Mu} {v1 : Int} {v2 : Int} {v3 : Int} {s0 : Int} {kh : Int → Mu → Option (Mu)} (hk : ∀ (y0 : Int) (q : Mu), JB B q → pcO (kh y0 q) (JB B)) (h : JB B m) : pcO (m5_compare_b125 kh v1 v2 v3 s0 m) (JB B) := by
    unfold m5_compare_b125
    repeat' first
      | with_reducible exact pcO_none
      | with_reducible exact pcO_some (by assumption)
      | with_reducible exact pcO_inl (by assumption)
      | with_reducible exact pcO_inr (by assumption)
      | with_reducible exact pcO_irl (by assumption)
      | with_reducible exact pcO_irr (by assumption)
      | with_reducible exact hk _ _ (by assumption)
      | with_reducible exact JB_compare_l158' (by assumption)
      | with_reducible refine pcO_ite (fun _ => ?_) (fun _ => ?_)
      | with_reducible refine pcO_bind (JB_compare_l158' (by assumption)) (fun _ _ => ?_)
      | with_reducible exact JB_mast (by assumption)
      | with_reducible refine pcO_bind (JB_mast (by assumption)) (fun _ _ => ?_)
      | with_reducible refine pcO_bind (pcO_some (JB_ms (by assumption) (by decide))) (fun _ _ => ?_)
      | with_reducible refine pcO_bind (pcO_some (JB_0 (by assumption))) (fun _ _ => ?_)
      | with_reducible refine pcO_any (pcO_sel (fun _ => ?_) (fun _ => ?_))
      | with_reducible refine pcO_any (fun _ => ?_)
theorem JB_compare_b124 {B : Int} {m : Mu} {v1 : Int} {v2 : Int} {v3 : Int} {kh : Int → Mu → Option (Mu)} (hk : ∀ (y0 : Int) (q : Mu), JB B q → pcO (kh y0 q) (JB B)) (h : JB B m) : pcO (m5_compare_b124 kh v1 v2 v3 m) (JB B) := by
    unfold m5_compare_b124
    repeat' first
      | with_reducible exact pcO_none
      | with_reducible exact pcO_some (by assumption)
      | with_reducible exact pcO_inl (by assumption)
      | with_reducible exact pcO_inr (by assumption)
      | with_reducible exact pcO_irl (by assumption)
      | with_reducible exact pcO_irr (by assumption)
      | with_reducible exact hk _ _ (by assumption)
      | with_reducible exact JB_compare_b125 hk (by assumption)
      | with_reducible refine pcO_ite (fun _ => ?_) (fun _ => ?_)
      | with_reducible exact JB_mast (by assumption)
      | with_reducible refine pcO_bind (JB_mast (by assumption)) (fun _ _ => ?_)
      | with_reducible refine pcO_bind (pcO_some (JB_ms (by assumption) (by decide))) (fun _ _ => ?_)
      | with_reducible refine pcO_bind (pcO_some (JB_0 (by assumption))) (fun _ _ => ?_)
      | with_reducible refine pcO_any (pcO_sel (fun _ => ?_) (fun _ => ?_))
      | with_reducible refine pcO_any (fun _ => ?_)
theorem JB_compare_b110 {B : Int} {m : Mu} {v1 : Int} {v2 : Int} {v3 : Int} {v4 : Int} {v5 : Int} {kh : Int → Mu → Option (Mu)} (hk : ∀ (y0 : Int) (q : Mu), JB B q → pcO (kh y0 q) (JB B)) (h : JB B m) : pcO (m5_compare_b110 kh v1 v2 v3 v4 v5 m) (JB B) := by
    unfold m5_compare_b110
    repeat' first
      | with_reducible exact pcO_none
      | with_reducible exact pcO_some (by assumption)
      | with_reducible exact pcO_inl (by assumption)
      | with_reducible exact pcO_inr (by assumption)
      | with_reducible exact pcO_irl (by assumption)
      | with_reducible exact pcO_irr (by assumption)
      | with_reducible exact hk _ _ (by assumption)
      | with_reducible exact JB_compare_b124 hk (by assumption)
      | with_reducible exact JB_compare_b125 hk (by assumption)
      | with_reducible refine pcO_ite (fun _ => ?_) (fun _ => ?_)
      | with_reducible exact JB_mast (by assumption)
      | with_reducible refine pcO_bind (JB_mast (by assumption)) (fun _ _ => ?_)
      | with_reducible refine pcO_bind (pcO_some (JB_ms (by assumption) (by decide))) (fun _ _ => ?_)
      | with_reducible refine pcO_bind (pcO_some (JB_0 (by assumption))) (fun _ _ => ?_)
      | with_reducible refine pcO_any (pcO_sel (fun _ => ?_) (fun _ => ?_))
      | with_reducible refine pcO_any (fun _ => ?_)
theorem JB_compare_l63 {B : Int} {v1 : Int} {v2 : Int} : ∀ (n : Nat) (x0 : Int) (m : Mu), JB B m → pcO (m5_compare_l63 v1 v2 n x0 m) (JB B) := by
    intro n
    induction n with
    | zero => intro x0 m h; exact pcO_none
    | succ n ih =>
      intro x0 m h
      unfold m5_compare_l63
      repeat' first
        | with_reducible exact pcO_none
        | with_reducible exact pcO_some (by assumption)
        | with_reducible exact pcO_inl (by assumption)
        | with_reducible exact pcO_inr (by assumption)
        | with_reducible exact pcO_irl (by assumption)
        | with_reducible exact pcO_irr (by assumption)
        | with_reducible exact ih _ _ (by assumption)
        | with_reducible exact JB_takeBoth (by assumption)
        | with_reducible exact JB_compare_b110 ih (by assumption)
        | with_reducible exact JB_compare_b125 ih (by assumption)
        | with_reducible refine pcO_ite (fun _ => ?_) (fun _ => ?_)
        | with_reducible refine pcO_bind (JB_takeBoth (by assumption)) (fun _ _ => ?_)
        | with_reducible exact JB_mast (by assumption)
        | with_reducible refine pcO_bind (JB_mast (by assumption)) (fun _ _ => ?_)
        | with_reducible refine pcO_bind (pcO_some (JB_ms (by assumption) (by decide))) (fun _ _ => ?_)
        | with_reducible refine pcO_bind (pcO_some (JB_0 (by assumption))) (fun _ _ => ?_)
        | with_reducible refine pcO_any (pcO_sel (fun _ => ?_) (fun _ => ?_))
        | with_reducible refine pcO_any (fun _ => ?_)
theorem JB_compare_l63' {B : Int} {n : Nat} {v1 : Int} {v2 : Int} {x0 : Int} {m : Mu} (h : JB B m) : pcO (m5_compare_l63 v1 v2 n x0 m) (JB B) := JB_compare_l63 n x0 m h
theorem JB_compare {B : Int} {m : Mu} {v1 : Int} {v2 : Int} (h : JB B m) : pcO (m5_compare v1 v2 m) (fun r : Int × Mu => JB B r.2) := by
    unfold m5_compare
    repeat' first
      | with_reducible exact pcO_none
      | with_reducible exact pcO_some (by assumption)
      | with_reducible exact pcO_inl (by assumption)
      | with_reducible exact pcO_inr (by assumption)
      | with_reducible exact pcO_irl (by assumption)
      | with_reducible exact pcO_irr (by assumption)
      | with_reducible exact JB_joinStarts (by assumption)
      | with_reducible exact JB_compare_l63' (by assumption)
      | with_reducible refine pcO_ite (fun _ => ?_) (fun _ => ?_)
      | with_reducible refine pcO_bind (JB_joinStarts (by assumption)) (fun _ _ => ?_)
      | with_reducible refine pcO_bind (JB_compare_l63' (by assumption)) (fun _ _ => ?_)
      | with_reducible exact JB_mast (by assumption)
      | with_reducible refine pcO_bind (JB_mast (by assumption)) (fun _ _ => ?_)
      | with_reducible refine pcO_bind (pcO_some (JB_ms (by assumption) (by decide))) (fun _ _ => ?_)
      | with_reducible refine pcO_bind (pcO_some (JB_0 (by assumption))) (fun _ _ => ?_)
      | with_reducible refine pcO_any (pcO_sel (fun _ => ?_) (fun _ => ?_))
      | with_reducible refine pcO_any (fun _ => ?_)
theorem JB_judge_l130 {B : Int} {v1 : Int} {v2 : Int} : ∀ (n : Nat) (x0 : Int) (m : Mu), JB B m → pcO (m5_judge_l130 v1 v2 n x0 m) (JB B) := by
    intro n
    induction n with
    | zero => intro x0 m h; exact pcO_none
    | succ n ih =>
      intro x0 m h
      unfold m5_judge_l130
      repeat' first
        | with_reducible exact pcO_none
        | with_reducible exact pcO_some (by assumption)
        | with_reducible exact pcO_inl (by assumption)
        | with_reducible exact pcO_inr (by assumption)
        | with_reducible exact pcO_irl (by assumption)
        | with_reducible exact pcO_irr (by assumption)
        | with_reducible exact ih _ _ (by assumption)
        | with_reducible exact JB_findStarts (by assumption)
        | with_reducible refine pcO_ite (fun _ => ?_) (fun _ => ?_)
        | with_reducible refine pcO_bind (JB_findStarts (by assumption)) (fun _ _ => ?_)
        | with_reducible exact JB_mast (by assumption)
        | with_reducible refine pcO_bind (JB_mast (by assumption)) (fun _ _ => ?_)
        | with_reducible refine pcO_bind (pcO_some (JB_ms (by assumption) (by decide))) (fun _ _ => ?_)
        | with_reducible refine pcO_bind (pcO_some (JB_0 (by assumption))) (fun _ _ => ?_)
        | with_reducible refine pcO_any (pcO_sel (fun _ => ?_) (fun _ => ?_))
        | with_reducible refine pcO_any (fun _ => ?_)
theorem JB_judge_l130' {B : Int} {n : Nat} {v1 : Int} {v2 : Int} {x0 : Int} {m : Mu} (h : JB B m) : pcO (m5_judge_l130 v1 v2 n x0 m) (JB B) := JB_judge_l130 n x0 m h
theorem JB_judge_l279 {B : Int} {v1 : Int} {v2 : Int} {v4 : Int} : ∀ (n : Nat) (x0 : Int) (m : Mu), JB B m → pcO (m5_judge_l279 v1 v2 v4 n x0 m) (JB B) := by
    intro n
    induction n with
    | zero => intro x0 m h; exact pcO_none
    | succ n ih =>
      intro x0 m h
      unfold m5_judge_l279
      repeat' first
        | with_reducible exact pcO_none
        | with_reducible exact pcO_some (by assumption)
        | with_reducible exact pcO_inl (by assumption)
        | with_reducible exact pcO_inr (by assumption)
        | with_reducible exact pcO_irl (by assumption)
        | with_reducible exact pcO_irr (by assumption)
        | with_reducible exact ih _ _ (by assumption)
        | with_reducible refine pcO_ite (fun _ => ?_) (fun _ => ?_)
        | with_reducible exact JB_mast (by assumption)
        | with_reducible refine pcO_bind (JB_mast (by assumption)) (fun _ _ => ?_)
        | with_reducible refine pcO_bind (pcO_some (JB_ms (by assumption) (by decide))) (fun _ _ => ?_)
        | with_reducible refine pcO_bind (pcO_some (JB_0 (by assumption))) (fun _ _ => ?_)
        | with_reducible refine pcO_any (pcO_sel (fun _ => ?_) (fun _ => ?_))
        | with_reducible refine pcO_any (fun _ => ?_)
theorem JB_judge_l279' {B : Int} {n : Nat} {v1 : Int} {v2 : Int} {v4 : Int} {x0 : Int} {m : Mu} (h : JB B m) : pcO (m5_judge_l279 v1 v2 v4 n x0 m) (JB B) := JB_judge_l279 n x0 m h
theorem JB_judge_b266 {B : Int} {m : Mu} {v1 : Int} {v2 : Int} {v4 : Int} {kh : Int → Mu → Option (Mu)} (hk : ∀ (y0 : Int) (q : Mu), JB B q → pcO (kh y0 q) (JB B)) (h : JB B m) : pcO (m5_judge_b266 kh v1 v2 v4 m) (JB B) := by
    unfold m5_judge_b266
    repeat' first
      | with_reducible exact pcO_none
      | with_reducible exact pcO_some (by assumption)
      | with_reducible exact pcO_inl (by assumption)
      | with_reducible exact pcO_inr (by assumption)
      | with_reducible exact pcO_irl (by assumption)
      | with_reducible exact pcO_irr (by assumption)
      | with_reducible exact hk _ _ (by assumption)
      | with_reducible exact JB_judge_l279' (by assumption)
      | with_reducible refine pcO_ite (fun _ => ?_) (fun _ => ?_)
      | with_reducible refine pcO_bind (JB_judge_l279' (by assumption)) (fun _ _ => ?_)
      | with_reducible exact JB_mast (by assumption)
      | with_reducible refine pcO_bind (JB_mast (by assumption)) (fun _ _ => ?_)
      | with_reducible refine pcO_bind (pcO_some (JB_ms (by assumption) (by decide))) (fun _ _ => ?_)
      | with_reducible refine pcO_bind (pcO_some (JB_0 (by assumption))) (fun _ _ => ?_)
      | with_reducible refine pcO_any (pcO_sel (fun _ => ?_) (fun _ => ?_))
      | with_reducible refine pcO_any (fun _ => ?_)
theorem JB_judge_b240 {B : Int} {m : Mu} {v1 : Int} {v2 : Int} {v4 : Int} {v5 : Int} {s0 : Int} {kh : Int → Mu → Option (Mu)} (hk : ∀ (y0 : Int) (q : Mu), JB B q → pcO (kh y0 q) (JB B)) (h : JB B m) : pcO (m5_judge_b240 kh v1 v2 v4 v5 s0 m) (JB B) := by
    unfold m5_judge_b240
    repeat' first
      | with_reducible exact pcO_none
      | with_reducible exact pcO_some (by assumption)
      | with_reducible exact pcO_inl (by assumption)
      | with_reducible exact pcO_inr (by assumption)
      | with_reducible exact pcO_irl (by assumption)
      | with_reducible exact pcO_irr (by assumption)
      | with_reducible exact hk _ _ (by assumption)
      | with_reducible exact JB_judge_b266 hk (by assumption)
      | with_reducible refine pcO_ite (fun _ => ?_) (fun _ => ?_)
      | with_reducible exact JB_mast (by assumption)
      | with_reducible refine pcO_bind (JB_mast (by assumption)) (fun _ _ => ?_)
      | with_reducible refine pcO_bind (pcO_some (JB_ms (by assumption) (by decide))) (fun _ _ => ?_)
      | with_reducible refine pcO_bind (pcO_some (JB_0 (by assumption))) (fun _ _ => ?_)
      | with_reducible refine pcO_any (pcO_sel (fun _ => ?_) (fun _ => ?_))
      | with_reducible refine pcO_any (fun _ => ?_)
theorem JB_judge_b239 {B : Int} {m : Mu} {v1 : Int} {v2 : Int} {v4 : Int} {v5 : Int} {kh : Int → Mu → Option (Mu)} (hk : ∀ (y0 : Int) (q : Mu), JB B q → pcO (kh y0 q) (JB B)) (h : JB B m) : pcO (m5_judge_b239 kh v1 v2 v4 v5 m) (JB B) := by
    unfold m5_judge_b239
    repeat' first
      | with_reducible exact pcO_none
      | with_reducible exact pcO_some (by assumption)
      | with_reducible exact pcO_inl (by assumption)
      | with_reducible exact pcO_inr (by assumption)
      | with_reducible exact pcO_irl (by assumption)
      | with_reducible exact pcO_irr (by assumption)
      | with_reducible exact hk _ _ (by assumption)
      | with_reducible exact JB_judge_b240 hk (by assumption)
      | with_reducible refine pcO_ite (fun _ => ?_) (fun _ => ?_)
      | with_reducible exact JB_mast (by assumption)
      | with_reducible refine pcO_bind (JB_mast (by assumption)) (fun _ _ => ?_)
      | with_reducible refine pcO_bind (pcO_some (JB_ms (by assumption) (by decide))) (fun _ _ => ?_)
      | with_reducible refine pcO_bind (pcO_some (JB_0 (by assumption))) (fun _ _ => ?_)
      | with_reducible refine pcO_any (pcO_sel (fun _ => ?_) (fun _ => ?_))
      | with_reducible refine pcO_any (fun _ => ?_)
theorem JB_judge_l176 {B : Int} {v1 : Int} {v2 : Int} : ∀ (n : Nat) (x0 : Int) (m : Mu), JB B m → pcO (m5_judge_l176 v1 v2 n x0 m) (JB B) := by
    intro n
    induction n with
    | zero => intro x0 m h; exact pcO_none
    | succ n ih =>
      intro x0 m h
      unfold m5_judge_l176
      repeat' first
        | with_reducible exact pcO_none
        | with_reducible exact pcO_some (by assumption)
        | with_reducible exact pcO_inl (by assumption)
        | with_reducible exact pcO_inr (by assumption)
        | with_reducible exact pcO_irl (by assumption)
        | with_reducible exact pcO_irr (by assumption)
        | with_reducible exact ih _ _ (by assumption)
        | with_reducible exact JB_takeBoth (by assumption)
        | with_reducible exact JB_findMeant (by assumption)
        | with_reducible exact JB_isTrue (by assumption)
        | with_reducible exact JB_judge_b239 ih (by assumption)
        | with_reducible exact JB_judge_b240 ih (by assumption)
        | with_reducible refine pcO_ite (fun _ => ?_) (fun _ => ?_)
        | with_reducible refine pcO_bind (JB_takeBoth (by assumption)) (fun _ _ => ?_)
        | with_reducible refine pcO_bind (JB_findMeant (by assumption)) (fun _ _ => ?_)
        | with_reducible refine pcO_bind (JB_isTrue (by assumption)) (fun _ _ => ?_)
        | with_reducible exact JB_mast (by assumption)
        | with_reducible refine pcO_bind (JB_mast (by assumption)) (fun _ _ => ?_)
        | with_reducible refine pcO_bind (pcO_some (JB_ms (by assumption) (by decide))) (fun _ _ => ?_)
        | with_reducible refine pcO_bind (pcO_some (JB_0 (by assumption))) (fun _ _ => ?_)
        | with_reducible refine pcO_any (pcO_sel (fun _ => ?_) (fun _ => ?_))
        | with_reducible refine pcO_any (fun _ => ?_)
theorem JB_judge_l176' {B : Int} {n : Nat} {v1 : Int} {v2 : Int} {x0 : Int} {m : Mu} (h : JB B m) : pcO (m5_judge_l176 v1 v2 n x0 m) (JB B) := JB_judge_l176 n x0 m h
theorem JB_judge_b316 {B : Int} {m : Mu} {v2 : Int} (h : JB B m) : pcO (m5_judge_b316 v2 m) (fun r : Int × Mu => JB B r.2) := by
    unfold m5_judge_b316
    repeat' first
      | with_reducible exact pcO_none
      | with_reducible exact pcO_some (by assumption)
      | with_reducible exact pcO_inl (by assumption)
      | with_reducible exact pcO_inr (by assumption)
      | with_reducible exact pcO_irl (by assumption)
      | with_reducible exact pcO_irr (by assumption)
      | with_reducible refine pcO_ite (fun _ => ?_) (fun _ => ?_)
      | with_reducible exact JB_mast (by assumption)
      | with_reducible refine pcO_bind (JB_mast (by assumption)) (fun _ _ => ?_)
      | with_reducible refine pcO_bind (pcO_some (JB_ms (by assumption) (by decide))) (fun _ _ => ?_)
      | with_reducible refine pcO_bind (pcO_some (JB_0 (by assumption))) (fun _ _ => ?_)
      | with_reducible refine pcO_any (pcO_sel (fun _ => ?_) (fun _ => ?_))
      | with_reducible refine pcO_any (fun _ => ?_)
theorem JB_judge_b84 {B : Int} {m : Mu} {v1 : Int} {v2 : Int} (h : JB B m) : pcO (m5_judge_b84 v1 v2 m) (fun r : Int × Mu => JB B r.2) := by
    unfold m5_judge_b84
    repeat' first
      | with_reducible exact pcO_none
      | with_reducible exact pcO_some (by assumption)
      | with_reducible exact pcO_inl (by assumption)
      | with_reducible exact pcO_inr (by assumption)
      | with_reducible exact pcO_irl (by assumption)
      | with_reducible exact pcO_irr (by assumption)
      | with_reducible exact JB_ended (by assumption)
      | with_reducible exact JB_clear (by assumption)
      | with_reducible exact JB_copyWording (by assumption)
      | with_reducible exact JB_takeNodes (by assumption)
      | with_reducible exact JB_judge_l130' (by assumption)
      | with_reducible exact JB_joinStarts (by assumption)
      | with_reducible exact JB_judge_l176' (by assumption)
      | with_reducible exact JB_judge_b316 (by assumption)
      | with_reducible refine pcO_ite (fun _ => ?_) (fun _ => ?_)
      | with_reducible refine pcO_bind (JB_ended (by assumption)) (fun _ _ => ?_)
      | with_reducible refine pcO_bind (JB_clear (by assumption)) (fun _ _ => ?_)
      | with_reducible refine pcO_bind (JB_copyWording (by assumption)) (fun _ _ => ?_)
      | with_reducible refine pcO_bind (JB_takeNodes (by assumption)) (fun _ _ => ?_)
      | with_reducible refine pcO_bind (JB_judge_l130' (by assumption)) (fun _ _ => ?_)
      | with_reducible refine pcO_bind (JB_joinStarts (by assumption)) (fun _ _ => ?_)
      | with_reducible refine pcO_bind (JB_judge_l176' (by assumption)) (fun _ _ => ?_)
      | with_reducible refine pcO_bind (JB_judge_b316 (by assumption)) (fun _ _ => ?_)
      | with_reducible exact JB_mast (by assumption)
      | with_reducible refine pcO_bind (JB_mast (by assumption)) (fun _ _ => ?_)
      | with_reducible refine pcO_bind (pcO_some (JB_ms (by assumption) (by decide))) (fun _ _ => ?_)
      | with_reducible refine pcO_bind (pcO_some (JB_0 (by assumption))) (fun _ _ => ?_)
      | with_reducible refine pcO_any (pcO_sel (fun _ => ?_) (fun _ => ?_))
      | with_reducible refine pcO_any (fun _ => ?_)
theorem JB_judge_b80 {B : Int} {m : Mu} {v1 : Int} {v2 : Int} (h : JB B m) : pcO (m5_judge_b80 v1 v2 m) (fun r : Int × Mu => JB B r.2) := by
    unfold m5_judge_b80
    repeat' first
      | with_reducible exact pcO_none
      | with_reducible exact pcO_some (by assumption)
      | with_reducible exact pcO_inl (by assumption)
      | with_reducible exact pcO_inr (by assumption)
      | with_reducible exact pcO_irl (by assumption)
      | with_reducible exact pcO_irr (by assumption)
      | with_reducible exact JB_cannot (by assumption)
      | with_reducible exact JB_judge_b84 (by assumption)
      | with_reducible refine pcO_ite (fun _ => ?_) (fun _ => ?_)
      | with_reducible refine pcO_bind (JB_cannot (by assumption)) (fun _ _ => ?_)
      | with_reducible refine pcO_bind (JB_judge_b84 (by assumption)) (fun _ _ => ?_)
      | with_reducible exact JB_mast (by assumption)
      | with_reducible refine pcO_bind (JB_mast (by assumption)) (fun _ _ => ?_)
      | with_reducible refine pcO_bind (pcO_some (JB_ms (by assumption) (by decide))) (fun _ _ => ?_)
      | with_reducible refine pcO_bind (pcO_some (JB_0 (by assumption))) (fun _ _ => ?_)
      | with_reducible refine pcO_any (pcO_sel (fun _ => ?_) (fun _ => ?_))
      | with_reducible refine pcO_any (fun _ => ?_)
theorem JB_judge {B : Int} {m : Mu} {v1 : Int} (h : JB B m) : pcO (m5_judge v1 m) (fun r : Int × Mu => JB B r.2) := by
    unfold m5_judge
    repeat' first
      | with_reducible exact pcO_none
      | with_reducible exact pcO_some (by assumption)
      | with_reducible exact pcO_inl (by assumption)
      | with_reducible exact pcO_inr (by assumption)
      | with_reducible exact pcO_irl (by assumption)
      | with_reducible exact pcO_irr (by assumption)
      | with_reducible exact JB_beginText (by assumption)
      | with_reducible exact JB_judge_b80 (by assumption)
      | with_reducible exact JB_next (by assumption)
      | with_reducible exact JB_cond (by assumption)
      | with_reducible exact JB_judge_b84 (by assumption)
      | with_reducible exact JB_cannot (by assumption)
      | with_reducible refine pcO_ite (fun _ => ?_) (fun _ => ?_)
      | with_reducible refine pcO_bind (JB_beginText (by assumption)) (fun _ _ => ?_)
      | with_reducible refine pcO_bind (JB_judge_b80 (by assumption)) (fun _ _ => ?_)
      | with_reducible refine pcO_bind (JB_next (by assumption)) (fun _ _ => ?_)
      | with_reducible refine pcO_bind (JB_cond (by assumption)) (fun _ _ => ?_)
      | with_reducible refine pcO_bind (JB_judge_b84 (by assumption)) (fun _ _ => ?_)
      | with_reducible refine pcO_bind (JB_cannot (by assumption)) (fun _ _ => ?_)
      | with_reducible exact JB_mast (by assumption)
      | with_reducible refine pcO_bind (JB_mast (by assumption)) (fun _ _ => ?_)
      | with_reducible refine pcO_bind (pcO_some (JB_ms (by assumption) (by decide))) (fun _ _ => ?_)
      | with_reducible refine pcO_bind (pcO_some (JB_0 (by assumption))) (fun _ _ => ?_)
      | with_reducible refine pcO_any (pcO_sel (fun _ => ?_) (fun _ => ?_))
      | with_reducible refine pcO_any (fun _ => ?_)
theorem JB_event_l44 {B : Int} : ∀ (n : Nat) (x0 : Int) (m : Mu), JB B m → pcO (m5_event_l44  n x0 m) (JB B) := by
    intro n
    induction n with
    | zero => intro x0 m h; exact pcO_none
    | succ n ih =>
      intro x0 m h
      unfold m5_event_l44
      repeat' first
        | with_reducible exact pcO_none
        | with_reducible exact pcO_some (by assumption)
        | with_reducible exact pcO_inl (by assumption)
        | with_reducible exact pcO_inr (by assumption)
        | with_reducible exact pcO_irl (by assumption)
        | with_reducible exact pcO_irr (by assumption)
        | with_reducible exact ih _ _ (by assumption)
        | with_reducible refine pcO_ite (fun _ => ?_) (fun _ => ?_)
        | with_reducible exact JB_mast (by assumption)
        | with_reducible refine pcO_bind (JB_mast (by assumption)) (fun _ _ => ?_)
        | with_reducible refine pcO_bind (pcO_some (JB_ms (by assumption) (by decide))) (fun _ _ => ?_)
        | with_reducible refine pcO_bind (pcO_some (JB_0 (by assumption))) (fun _ _ => ?_)
        | with_reducible refine pcO_any (pcO_sel (fun _ => ?_) (fun _ => ?_))
        | with_reducible refine pcO_any (fun _ => ?_)
theorem JB_event_l44' {B : Int} {n : Nat} {x0 : Int} {m : Mu} (h : JB B m) : pcO (m5_event_l44  n x0 m) (JB B) := JB_event_l44 n x0 m h
theorem JB_event {B : Int} {m : Mu} {v1 : Int} (h : JB B m) : pcO (m5_event v1 m) (fun r : Int × Mu => JB B r.2) := by
    unfold m5_event
    repeat' first
      | with_reducible exact pcO_none
      | with_reducible exact pcO_some (by assumption)
      | with_reducible exact pcO_inl (by assumption)
      | with_reducible exact pcO_inr (by assumption)
      | with_reducible exact pcO_irl (by assumption)
      | with_reducible exact pcO_irr (by assumption)
      | with_reducible exact JB_event_l44' (by assumption)
      | with_reducible refine pcO_ite (fun _ => ?_) (fun _ => ?_)
      | with_reducible refine pcO_bind (JB_event_l44' (by assumption)) (fun _ _ => ?_)
      | with_reducible exact JB_mast (by assumption)
      | with_reducible refine pcO_bind (JB_mast (by assumption)) (fun _ _ => ?_)
      | with_reducible refine pcO_bind (pcO_some (JB_ms (by assumption) (by decide))) (fun _ _ => ?_)
      | with_reducible refine pcO_bind (pcO_some (JB_0 (by assumption))) (fun _ _ => ?_)
      | with_reducible refine pcO_any (pcO_sel (fun _ => ?_) (fun _ => ?_))
      | with_reducible refine pcO_any (fun _ => ?_)
theorem JB_tell_b69 {B : Int} {m : Mu} {v1 : Int} {v2 : Int} {v3 : Int} {v4 : Int} (h : JB B m) : pcO (m5_tell_b69 v1 v2 v3 v4 m) (fun r : Int × Mu => JB B r.2) := by
    unfold m5_tell_b69
    repeat' first
      | with_reducible exact pcO_none
      | with_reducible exact pcO_some (by assumption)
      | with_reducible exact pcO_inl (by assumption)
      | with_reducible exact pcO_inr (by assumption)
      | with_reducible exact pcO_irl (by assumption)
      | with_reducible exact pcO_irr (by assumption)
      | with_reducible refine pcO_ite (fun _ => ?_) (fun _ => ?_)
      | with_reducible exact JB_mast (by assumption)
      | with_reducible refine pcO_bind (JB_mast (by assumption)) (fun _ _ => ?_)
      | with_reducible refine pcO_bind (pcO_some (JB_ms (by assumption) (by decide))) (fun _ _ => ?_)
      | with_reducible refine pcO_bind (pcO_some (JB_0 (by assumption))) (fun _ _ => ?_)
      | with_reducible refine pcO_any (pcO_sel (fun _ => ?_) (fun _ => ?_))
      | with_reducible refine pcO_any (fun _ => ?_)
theorem JB_tell {B : Int} {m : Mu} {v1 : Int} {v2 : Int} {v3 : Int} {v4 : Int} (h : JB B m) : pcO (m5_tell v1 v2 v3 v4 m) (fun r : Int × Mu => JB B r.2) := by
    unfold m5_tell
    repeat' first
      | with_reducible exact pcO_none
      | with_reducible exact pcO_some (by assumption)
      | with_reducible exact pcO_inl (by assumption)
      | with_reducible exact pcO_inr (by assumption)
      | with_reducible exact pcO_irl (by assumption)
      | with_reducible exact pcO_irr (by assumption)
      | with_reducible exact JB_tell_b69 (by assumption)
      | with_reducible refine pcO_ite (fun _ => ?_) (fun _ => ?_)
      | with_reducible refine pcO_bind (JB_tell_b69 (by assumption)) (fun _ _ => ?_)
      | with_reducible exact JB_mast (by assumption)
      | with_reducible refine pcO_bind (JB_mast (by assumption)) (fun _ _ => ?_)
      | with_reducible refine pcO_bind (pcO_some (JB_ms (by assumption) (by decide))) (fun _ _ => ?_)
      | with_reducible refine pcO_bind (pcO_some (JB_0 (by assumption))) (fun _ _ => ?_)
      | with_reducible refine pcO_any (pcO_sel (fun _ => ?_) (fun _ => ?_))
      | with_reducible refine pcO_any (fun _ => ?_)
theorem JB_firstWay_l2 {B : Int} {v1 : Int} : ∀ (n : Nat) (x0 : Int) (m : Mu), JB B m → pcO (m5_firstWay_l2 v1 n x0 m) (JB B) := by
    intro n
    induction n with
    | zero => intro x0 m h; exact pcO_none
    | succ n ih =>
      intro x0 m h
      unfold m5_firstWay_l2
      repeat' first
        | with_reducible exact pcO_none
        | with_reducible exact pcO_some (by assumption)
        | with_reducible exact pcO_inl (by assumption)
        | with_reducible exact pcO_inr (by assumption)
        | with_reducible exact pcO_irl (by assumption)
        | with_reducible exact pcO_irr (by assumption)
        | with_reducible exact ih _ _ (by assumption)
        | with_reducible refine pcO_ite (fun _ => ?_) (fun _ => ?_)
        | with_reducible exact JB_mast (by assumption)
        | with_reducible refine pcO_bind (JB_mast (by assumption)) (fun _ _ => ?_)
        | with_reducible refine pcO_bind (pcO_some (JB_ms (by assumption) (by decide))) (fun _ _ => ?_)
        | with_reducible refine pcO_bind (pcO_some (JB_0 (by assumption))) (fun _ _ => ?_)
        | with_reducible refine pcO_any (pcO_sel (fun _ => ?_) (fun _ => ?_))
        | with_reducible refine pcO_any (fun _ => ?_)
theorem JB_firstWay_l2' {B : Int} {n : Nat} {v1 : Int} {x0 : Int} {m : Mu} (h : JB B m) : pcO (m5_firstWay_l2 v1 n x0 m) (JB B) := JB_firstWay_l2 n x0 m h
theorem JB_firstWay {B : Int} {m : Mu} {v1 : Int} (h : JB B m) : pcO (m5_firstWay v1 m) (JB B) := by
    unfold m5_firstWay
    repeat' first
      | with_reducible exact pcO_none
      | with_reducible exact pcO_some (by assumption)
      | with_reducible exact pcO_inl (by assumption)
      | with_reducible exact pcO_inr (by assumption)
      | with_reducible exact pcO_irl (by assumption)
      | with_reducible exact pcO_irr (by assumption)
      | with_reducible exact JB_firstWay_l2' (by assumption)
      | with_reducible refine pcO_ite (fun _ => ?_) (fun _ => ?_)
      | with_reducible refine pcO_bind (JB_firstWay_l2' (by assumption)) (fun _ _ => ?_)
      | with_reducible exact JB_mast (by assumption)
      | with_reducible refine pcO_bind (JB_mast (by assumption)) (fun _ _ => ?_)
      | with_reducible refine pcO_bind (pcO_some (JB_ms (by assumption) (by decide))) (fun _ _ => ?_)
      | with_reducible refine pcO_bind (pcO_some (JB_0 (by assumption))) (fun _ _ => ?_)
      | with_reducible refine pcO_any (pcO_sel (fun _ => ?_) (fun _ => ?_))
      | with_reducible refine pcO_any (fun _ => ?_)
theorem JB_nextWay_l9 {B : Int} {v1 : Int} : ∀ (n : Nat) (x0 : Int) (m : Mu), JB B m → pcO (m5_nextWay_l9 v1 n x0 m) (Sum.elim (JB B) (JB B)) := by
    intro n
    induction n with
    | zero => intro x0 m h; exact pcO_none
    | succ n ih =>
      intro x0 m h
      unfold m5_nextWay_l9
      repeat' first
        | with_reducible exact pcO_none
        | with_reducible exact pcO_some (by assumption)
        | with_reducible exact pcO_inl (by assumption)
        | with_reducible exact pcO_inr (by assumption)
        | with_reducible exact pcO_irl (by assumption)
        | with_reducible exact pcO_irr (by assumption)
        | with_reducible exact ih _ _ (by assumption)
        | with_reducible refine pcO_ite (fun _ => ?_) (fun _ => ?_)
        | with_reducible exact JB_mast (by assumption)
        | with_reducible refine pcO_bind (JB_mast (by assumption)) (fun _ _ => ?_)
        | with_reducible refine pcO_bind (pcO_some (JB_ms (by assumption) (by decide))) (fun _ _ => ?_)
        | with_reducible refine pcO_bind (pcO_some (JB_0 (by assumption))) (fun _ _ => ?_)
        | with_reducible refine pcO_any (pcO_sel (fun _ => ?_) (fun _ => ?_))
        | with_reducible refine pcO_any (fun _ => ?_)
theorem JB_nextWay_l9' {B : Int} {n : Nat} {v1 : Int} {x0 : Int} {m : Mu} (h : JB B m) : pcO (m5_nextWay_l9 v1 n x0 m) (Sum.elim (JB B) (JB B)) := JB_nextWay_l9 n x0 m h
theorem JB_nextWay {B : Int} {m : Mu} {v1 : Int} (h : JB B m) : pcO (m5_nextWay v1 m) (fun r : Int × Mu => JB B r.2) := by
    unfold m5_nextWay
    repeat' first
      | with_reducible exact pcO_none
      | with_reducible exact pcO_some (by assumption)
      | with_reducible exact pcO_inl (by assumption)
      | with_reducible exact pcO_inr (by assumption)
      | with_reducible exact pcO_irl (by assumption)
      | with_reducible exact pcO_irr (by assumption)
      | with_reducible exact JB_nextWay_l9' (by assumption)
      | with_reducible refine pcO_ite (fun _ => ?_) (fun _ => ?_)
      | with_reducible refine pcO_s2 (JB_nextWay_l9' (by assumption)) (fun _ _ => ?_) (fun _ _ => ?_)
      | with_reducible exact JB_mast (by assumption)
      | with_reducible refine pcO_bind (JB_mast (by assumption)) (fun _ _ => ?_)
      | with_reducible refine pcO_bind (pcO_some (JB_ms (by assumption) (by decide))) (fun _ _ => ?_)
      | with_reducible refine pcO_bind (pcO_some (JB_0 (by assumption))) (fun _ _ => ?_)
      | with_reducible refine pcO_any (pcO_sel (fun _ => ?_) (fun _ => ?_))
      | with_reducible refine pcO_any (fun _ => ?_)
theorem JB_settled_l11 {B : Int} {v1 : Int} {v2 : Int} : ∀ (n : Nat) (m : Mu), JB B m → pcO (m5_settled_l11 v1 v2 n  m) (Sum.elim (JB B) (JB B)) := by
    intro n
    induction n with
    | zero => intro  m h; exact pcO_none
    | succ n ih =>
      intro  m h
      unfold m5_settled_l11
      repeat' first
        | with_reducible exact pcO_none
        | with_reducible exact pcO_some (by assumption)
        | with_reducible exact pcO_inl (by assumption)
        | with_reducible exact pcO_inr (by assumption)
        | with_reducible exact pcO_irl (by assumption)
        | with_reducible exact pcO_irr (by assumption)
        | with_reducible exact ih _ (by assumption)
        | with_reducible exact JB_nextWay (by assumption)
        | with_reducible refine pcO_ite (fun _ => ?_) (fun _ => ?_)
        | with_reducible refine pcO_bind (JB_nextWay (by assumption)) (fun _ _ => ?_)
        | with_reducible exact JB_mast (by assumption)
        | with_reducible refine pcO_bind (JB_mast (by assumption)) (fun _ _ => ?_)
        | with_reducible refine pcO_bind (pcO_some (JB_ms (by assumption) (by decide))) (fun _ _ => ?_)
        | with_reducible refine pcO_bind (pcO_some (JB_0 (by assumption))) (fun _ _ => ?_)
        | with_reducible refine pcO_any (pcO_sel (fun _ => ?_) (fun _ => ?_))
        | with_reducible refine pcO_any (fun _ => ?_)
theorem JB_settled_l11' {B : Int} {n : Nat} {v1 : Int} {v2 : Int} {m : Mu} (h : JB B m) : pcO (m5_settled_l11 v1 v2 n  m) (Sum.elim (JB B) (JB B)) := JB_settled_l11 n  m h
theorem JB_settled {B : Int} {m : Mu} {v1 : Int} (h : JB B m) : pcO (m5_settled v1 m) (fun r : Int × Mu => JB B r.2) := by
    unfold m5_settled
    repeat' first
      | with_reducible exact pcO_none
      | with_reducible exact pcO_some (by assumption)
      | with_reducible exact pcO_inl (by assumption)
      | with_reducible exact pcO_inr (by assumption)
      | with_reducible exact pcO_irl (by assumption)
      | with_reducible exact pcO_irr (by assumption)
      | with_reducible exact JB_firstWay (by assumption)
      | with_reducible exact JB_settled_l11' (by assumption)
      | with_reducible refine pcO_ite (fun _ => ?_) (fun _ => ?_)
      | with_reducible refine pcO_bind (JB_firstWay (by assumption)) (fun _ _ => ?_)
      | with_reducible refine pcO_s2 (JB_settled_l11' (by assumption)) (fun _ _ => ?_) (fun _ _ => ?_)
      | with_reducible exact JB_mast (by assumption)
      | with_reducible refine pcO_bind (JB_mast (by assumption)) (fun _ _ => ?_)
      | with_reducible refine pcO_bind (pcO_some (JB_ms (by assumption) (by decide))) (fun _ _ => ?_)
      | with_reducible refine pcO_bind (pcO_some (JB_0 (by assumption))) (fun _ _ => ?_)
      | with_reducible refine pcO_any (pcO_sel (fun _ => ?_) (fun _ => ?_))
      | with_reducible refine pcO_any (fun _ => ?_)
theorem JB_takeDigits_l3 {B : Int} {v1 : Int} {v2 : Int} {v3 : Int} : ∀ (n : Nat) (x0 : Int) (m : Mu), JB B m → pcO (m5_takeDigits_l3 v1 v2 v3 n x0 m) (JB B) := by
    intro n
    induction n with
    | zero => intro x0 m h; exact pcO_none
    | succ n ih =>
      intro x0 m h
      unfold m5_takeDigits_l3
      repeat' first
        | with_reducible exact pcO_none
        | with_reducible exact pcO_some (by assumption)
        | with_reducible exact pcO_inl (by assumption)
        | with_reducible exact pcO_inr (by assumption)
        | with_reducible exact pcO_irl (by assumption)
        | with_reducible exact pcO_irr (by assumption)
        | with_reducible exact ih _ _ (by assumption)
        | with_reducible refine pcO_ite (fun _ => ?_) (fun _ => ?_)
        | with_reducible exact JB_mast (by assumption)
        | with_reducible refine pcO_bind (JB_mast (by assumption)) (fun _ _ => ?_)
        | with_reducible refine pcO_bind (pcO_some (JB_ms (by assumption) (by decide))) (fun _ _ => ?_)
        | with_reducible refine pcO_bind (pcO_some (JB_0 (by assumption))) (fun _ _ => ?_)
        | with_reducible refine pcO_any (pcO_sel (fun _ => ?_) (fun _ => ?_))
        | with_reducible refine pcO_any (fun _ => ?_)
theorem JB_takeDigits_l3' {B : Int} {n : Nat} {v1 : Int} {v2 : Int} {v3 : Int} {x0 : Int} {m : Mu} (h : JB B m) : pcO (m5_takeDigits_l3 v1 v2 v3 n x0 m) (JB B) := JB_takeDigits_l3 n x0 m h
theorem JB_takeDigits {B : Int} {m : Mu} {v1 : Int} {v2 : Int} {v3 : Int} (h : JB B m) : pcO (m5_takeDigits v1 v2 v3 m) (JB B) := by
    unfold m5_takeDigits
    repeat' first
      | with_reducible exact pcO_none
      | with_reducible exact pcO_some (by assumption)
      | with_reducible exact pcO_inl (by assumption)
      | with_reducible exact pcO_inr (by assumption)
      | with_reducible exact pcO_irl (by assumption)
      | with_reducible exact pcO_irr (by assumption)
      | with_reducible exact JB_takeDigits_l3' (by assumption)
      | with_reducible refine pcO_ite (fun _ => ?_) (fun _ => ?_)
      | with_reducible refine pcO_bind (JB_takeDigits_l3' (by assumption)) (fun _ _ => ?_)
      | with_reducible exact JB_mast (by assumption)
      | with_reducible refine pcO_bind (JB_mast (by assumption)) (fun _ _ => ?_)
      | with_reducible refine pcO_bind (pcO_some (JB_ms (by assumption) (by decide))) (fun _ _ => ?_)
      | with_reducible refine pcO_bind (pcO_some (JB_0 (by assumption))) (fun _ _ => ?_)
      | with_reducible refine pcO_any (pcO_sel (fun _ => ?_) (fun _ => ?_))
      | with_reducible refine pcO_any (fun _ => ?_)
theorem JB_covers {B : Int} {m : Mu} {v1 : Int} {v2 : Int} (h : JB B m) : pcO (m5_covers v1 v2 m) (fun r : Int × Mu => JB B r.2) := by
    unfold m5_covers
    repeat' first
      | with_reducible exact pcO_none
      | with_reducible exact pcO_some (by assumption)
      | with_reducible exact pcO_inl (by assumption)
      | with_reducible exact pcO_inr (by assumption)
      | with_reducible exact pcO_irl (by assumption)
      | with_reducible exact pcO_irr (by assumption)
      | with_reducible exact JB_takeDigits (by assumption)
      | with_reducible exact JB_settled (by assumption)
      | with_reducible refine pcO_ite (fun _ => ?_) (fun _ => ?_)
      | with_reducible refine pcO_bind (JB_takeDigits (by assumption)) (fun _ _ => ?_)
      | with_reducible refine pcO_bind (JB_settled (by assumption)) (fun _ _ => ?_)
      | with_reducible exact JB_mast (by assumption)
      | with_reducible refine pcO_bind (JB_mast (by assumption)) (fun _ _ => ?_)
      | with_reducible refine pcO_bind (pcO_some (JB_ms (by assumption) (by decide))) (fun _ _ => ?_)
      | with_reducible refine pcO_bind (pcO_some (JB_0 (by assumption))) (fun _ _ => ?_)
      | with_reducible refine pcO_any (pcO_sel (fun _ => ?_) (fun _ => ?_))
      | with_reducible refine pcO_any (fun _ => ?_)
theorem JB_settlesAll_l2 {B : Int} {v1 : Int} {v2 : Int} : ∀ (n : Nat) (x0 : Int) (m : Mu), JB B m → pcO (m5_settlesAll_l2 v1 v2 n x0 m) (JB B) := by
    intro n
    induction n with
    | zero => intro x0 m h; exact pcO_none
    | succ n ih =>
      intro x0 m h
      unfold m5_settlesAll_l2
      repeat' first
        | with_reducible exact pcO_none
        | with_reducible exact pcO_some (by assumption)
        | with_reducible exact pcO_inl (by assumption)
        | with_reducible exact pcO_inr (by assumption)
        | with_reducible exact pcO_irl (by assumption)
        | with_reducible exact pcO_irr (by assumption)
        | with_reducible exact ih _ _ (by assumption)
        | with_reducible refine pcO_ite (fun _ => ?_) (fun _ => ?_)
        | with_reducible exact JB_mast (by assumption)
        | with_reducible refine pcO_bind (JB_mast (by assumption)) (fun _ _ => ?_)
        | with_reducible refine pcO_bind (pcO_some (JB_ms (by assumption) (by decide))) (fun _ _ => ?_)
        | with_reducible refine pcO_bind (pcO_some (JB_0 (by assumption))) (fun _ _ => ?_)
        | with_reducible refine pcO_any (pcO_sel (fun _ => ?_) (fun _ => ?_))
        | with_reducible refine pcO_any (fun _ => ?_)
theorem JB_settlesAll_l2' {B : Int} {n : Nat} {v1 : Int} {v2 : Int} {x0 : Int} {m : Mu} (h : JB B m) : pcO (m5_settlesAll_l2 v1 v2 n x0 m) (JB B) := JB_settlesAll_l2 n x0 m h
theorem JB_settlesAll_b130 {B : Int} {m : Mu} {v1 : Int} {v2 : Int} {v4 : Int} {v5 : Int} {kh : Int → Mu → Option ((Mu) ⊕ (Mu))} (hk : ∀ (y0 : Int) (q : Mu), JB B q → pcO (kh y0 q) (Sum.elim (JB B) (JB B))) (h : JB B m) : pcO (m5_settlesAll_b130 kh v1 v2 v4 v5 m) (Sum.elim (JB B) (JB B)) := by
    unfold m5_settlesAll_b130
    repeat' first
      | with_reducible exact pcO_none
      | with_reducible exact pcO_some (by assumption)
      | with_reducible exact pcO_inl (by assumption)
      | with_reducible exact pcO_inr (by assumption)
      | with_reducible exact pcO_irl (by assumption)
      | with_reducible exact pcO_irr (by assumption)
      | with_reducible exact hk _ _ (by assumption)
      | with_reducible exact JB_nextWay (by assumption)
      | with_reducible refine pcO_ite (fun _ => ?_) (fun _ => ?_)
      | with_reducible refine pcO_bind (JB_nextWay (by assumption)) (fun _ _ => ?_)
      | with_reducible exact JB_mast (by assumption)
      | with_reducible refine pcO_bind (JB_mast (by assumption)) (fun _ _ => ?_)
      | with_reducible refine pcO_bind (pcO_some (JB_ms (by assumption) (by decide))) (fun _ _ => ?_)
      | with_reducible refine pcO_bind (pcO_some (JB_0 (by assumption))) (fun _ _ => ?_)
      | with_reducible refine pcO_any (pcO_sel (fun _ => ?_) (fun _ => ?_))
      | with_reducible refine pcO_any (fun _ => ?_)
theorem JB_settlesAll_b104 {B : Int} {m : Mu} {v1 : Int} {v2 : Int} {v4 : Int} {s0 : Int} {kh : Int → Mu → Option ((Mu) ⊕ (Mu))} (hk : ∀ (y0 : Int) (q : Mu), JB B q → pcO (kh y0 q) (Sum.elim (JB B) (JB B))) (h : JB B m) : pcO (m5_settlesAll_b104 kh v1 v2 v4 s0 m) (Sum.elim (JB B) (JB B)) := by
    unfold m5_settlesAll_b104
    repeat' first
      | with_reducible exact pcO_none
      | with_reducible exact pcO_some (by assumption)
      | with_reducible exact pcO_inl (by assumption)
      | with_reducible exact pcO_inr (by assumption)
      | with_reducible exact pcO_irl (by assumption)
      | with_reducible exact pcO_irr (by assumption)
      | with_reducible exact hk _ _ (by assumption)
      | with_reducible exact JB_settlesAll_b130 hk (by assumption)
      | with_reducible refine pcO_ite (fun _ => ?_) (fun _ => ?_)
      | with_reducible exact JB_mast (by assumption)
      | with_reducible refine pcO_bind (JB_mast (by assumption)) (fun _ _ => ?_)
      | with_reducible refine pcO_bind (pcO_some (JB_ms (by assumption) (by decide))) (fun _ _ => ?_)
      | with_reducible refine pcO_bind (pcO_some (JB_0 (by assumption))) (fun _ _ => ?_)
      | with_reducible refine pcO_any (pcO_sel (fun _ => ?_) (fun _ => ?_))
      | with_reducible refine pcO_any (fun _ => ?_)
theorem JB_settlesAll_l29 {B : Int} {v1 : Int} {v2 : Int} : ∀ (n : Nat) (x0 : Int) (m : Mu), JB B m → pcO (m5_settlesAll_l29 v1 v2 n x0 m) (Sum.elim (JB B) (JB B)) := by
    intro n
    induction n with
    | zero => intro x0 m h; exact pcO_none
    | succ n ih =>
      intro x0 m h
      unfold m5_settlesAll_l29
      repeat' first
        | with_reducible exact pcO_none
        | with_reducible exact pcO_some (by assumption)
        | with_reducible exact pcO_inl (by assumption)
        | with_reducible exact pcO_inr (by assumption)
        | with_reducible exact pcO_irl (by assumption)
        | with_reducible exact pcO_irr (by assumption)
        | with_reducible exact ih _ _ (by assumption)
        | with_reducible exact JB_settlesAll_b104 ih (by assumption)
        | with_reducible refine pcO_ite (fun _ => ?_) (fun _ => ?_)
        | with_reducible exact JB_mast (by assumption)
        | with_reducible refine pcO_bind (JB_mast (by assumption)) (fun _ _ => ?_)
        | with_reducible refine pcO_bind (pcO_some (JB_ms (by assumption) (by decide))) (fun _ _ => ?_)
        | with_reducible refine pcO_bind (pcO_some (JB_0 (by assumption))) (fun _ _ => ?_)
        | with_reducible refine pcO_any (pcO_sel (fun _ => ?_) (fun _ => ?_))
        | with_reducible refine pcO_any (fun _ => ?_)
theorem JB_settlesAll_l29' {B : Int} {n : Nat} {v1 : Int} {v2 : Int} {x0 : Int} {m : Mu} (h : JB B m) : pcO (m5_settlesAll_l29 v1 v2 n x0 m) (Sum.elim (JB B) (JB B)) := JB_settlesAll_l29 n x0 m h
theorem JB_settlesAll {B : Int} {m : Mu} {v1 : Int} {v2 : Int} (h : JB B m) : pcO (m5_settlesAll v1 v2 m) (fun r : Int × Mu => JB B r.2) := by
    unfold m5_settlesAll
    repeat' first
      | with_reducible exact pcO_none
      | with_reducible exact pcO_some (by assumption)
      | with_reducible exact pcO_inl (by assumption)
      | with_reducible exact pcO_inr (by assumption)
      | with_reducible exact pcO_irl (by assumption)
      | with_reducible exact pcO_irr (by assumption)
      | with_reducible exact JB_settlesAll_l2' (by assumption)
      | with_reducible exact JB_firstWay (by assumption)
      | with_reducible exact JB_settlesAll_l29' (by assumption)
      | with_reducible refine pcO_ite (fun _ => ?_) (fun _ => ?_)
      | with_reducible refine pcO_bind (JB_settlesAll_l2' (by assumption)) (fun _ _ => ?_)
      | with_reducible refine pcO_bind (JB_firstWay (by assumption)) (fun _ _ => ?_)
      | with_reducible refine pcO_s2 (JB_settlesAll_l29' (by assumption)) (fun _ _ => ?_) (fun _ _ => ?_)
      | with_reducible exact JB_mast (by assumption)
      | with_reducible refine pcO_bind (JB_mast (by assumption)) (fun _ _ => ?_)
      | with_reducible refine pcO_bind (pcO_some (JB_ms (by assumption) (by decide))) (fun _ _ => ?_)
      | with_reducible refine pcO_bind (pcO_some (JB_0 (by assumption))) (fun _ _ => ?_)
      | with_reducible refine pcO_any (pcO_sel (fun _ => ?_) (fun _ => ?_))
      | with_reducible refine pcO_any (fun _ => ?_)
theorem JB_settles_l83 {B : Int} {v3 : Int} {v4 : Int} : ∀ (n : Nat) (x0 : Int) (x1 : Int) (m : Mu), JB B m → pcO (m5_settles_l83 v3 v4 n x0 x1 m) (fun r : Int × Mu => JB B r.2) := by
    intro n
    induction n with
    | zero => intro x0 x1 m h; exact pcO_none
    | succ n ih =>
      intro x0 x1 m h
      unfold m5_settles_l83
      repeat' first
        | with_reducible exact pcO_none
        | with_reducible exact pcO_some (by assumption)
        | with_reducible exact pcO_inl (by assumption)
        | with_reducible exact pcO_inr (by assumption)
        | with_reducible exact pcO_irl (by assumption)
        | with_reducible exact pcO_irr (by assumption)
        | with_reducible exact ih _ _ _ (by assumption)
        | with_reducible exact JB_settlesAll (by assumption)
        | with_reducible refine pcO_ite (fun _ => ?_) (fun _ => ?_)
        | with_reducible refine pcO_bind (JB_settlesAll (by assumption)) (fun _ _ => ?_)
        | with_reducible exact JB_mast (by assumption)
        | with_reducible refine pcO_bind (JB_mast (by assumption)) (fun _ _ => ?_)
        | with_reducible refine pcO_bind (pcO_some (JB_ms (by assumption) (by decide))) (fun _ _ => ?_)
        | with_reducible refine pcO_bind (pcO_some (JB_0 (by assumption))) (fun _ _ => ?_)
        | with_reducible refine pcO_any (pcO_sel (fun _ => ?_) (fun _ => ?_))
        | with_reducible refine pcO_any (fun _ => ?_)
theorem JB_settles_l83' {B : Int} {n : Nat} {v3 : Int} {v4 : Int} {x0 : Int} {x1 : Int} {m : Mu} (h : JB B m) : pcO (m5_settles_l83 v3 v4 n x0 x1 m) (fun r : Int × Mu => JB B r.2) := JB_settles_l83 n x0 x1 m h
theorem JB_settles {B : Int} {m : Mu} {v1 : Int} {v2 : Int} (h : JB B m) : pcO (m5_settles v1 v2 m) (fun r : Int × Mu => JB B r.2) := by
    unfold m5_settles
    repeat' first
      | with_reducible exact pcO_none
      | with_reducible exact pcO_some (by assumption)
      | with_reducible exact pcO_inl (by assumption)
      | with_reducible exact pcO_inr (by assumption)
      | with_reducible exact pcO_irl (by assumption)
      | with_reducible exact pcO_irr (by assumption)
      | with_reducible exact JB_takeDigits (by assumption)
      | with_reducible exact JB_settles_l83' (by assumption)
      | with_reducible refine pcO_ite (fun _ => ?_) (fun _ => ?_)
      | with_reducible refine pcO_bind (JB_takeDigits (by assumption)) (fun _ _ => ?_)
      | with_reducible refine pcO_bind (JB_settles_l83' (by assumption)) (fun _ _ => ?_)
      | with_reducible exact JB_mast (by assumption)
      | with_reducible refine pcO_bind (JB_mast (by assumption)) (fun _ _ => ?_)
      | with_reducible refine pcO_bind (pcO_some (JB_ms (by assumption) (by decide))) (fun _ _ => ?_)
      | with_reducible refine pcO_bind (pcO_some (JB_0 (by assumption))) (fun _ _ => ?_)
      | with_reducible refine pcO_any (pcO_sel (fun _ => ?_) (fun _ => ?_))
      | with_reducible refine pcO_any (fun _ => ?_)
theorem JB_because_b93 {B : Int} {m : Mu} {v3 : Int} {v5 : Int} {s0 : Int} {s1 : Int} {kh : Int → Int → Mu → Option (Int × Mu)} (hk : ∀ (y0 : Int) (y1 : Int) (q : Mu), JB B q → pcO (kh y0 y1 q) (fun r : Int × Mu => JB B r.2)) (h : JB B m) : pcO (m5_because_b93 kh v3 v5 s0 s1 m) (fun r : Int × Mu => JB B r.2) := by
    unfold m5_because_b93
    repeat' first
      | with_reducible exact pcO_none
      | with_reducible exact pcO_some (by assumption)
      | with_reducible exact pcO_inl (by assumption)
      | with_reducible exact pcO_inr (by assumption)
      | with_reducible exact pcO_irl (by assumption)
      | with_reducible exact pcO_irr (by assumption)
      | with_reducible exact hk _ _ _ (by assumption)
      | with_reducible refine pcO_ite (fun _ => ?_) (fun _ => ?_)
      | with_reducible exact JB_mast (by assumption)
      | with_reducible refine pcO_bind (JB_mast (by assumption)) (fun _ _ => ?_)
      | with_reducible refine pcO_bind (pcO_some (JB_ms (by assumption) (by decide))) (fun _ _ => ?_)
      | with_reducible refine pcO_bind (pcO_some (JB_0 (by assumption))) (fun _ _ => ?_)
      | with_reducible refine pcO_any (pcO_sel (fun _ => ?_) (fun _ => ?_))
      | with_reducible refine pcO_any (fun _ => ?_)
theorem JB_because_l48 {B : Int} {v3 : Int} : ∀ (n : Nat) (x0 : Int) (x1 : Int) (m : Mu), JB B m → pcO (m5_because_l48 v3 n x0 x1 m) (fun r : Int × Mu => JB B r.2) := by
    intro n
    induction n with
    | zero => intro x0 x1 m h; exact pcO_none
    | succ n ih =>
      intro x0 x1 m h
      unfold m5_because_l48
      repeat' first
        | with_reducible exact pcO_none
        | with_reducible exact pcO_some (by assumption)
        | with_reducible exact pcO_inl (by assumption)
        | with_reducible exact pcO_inr (by assumption)
        | with_reducible exact pcO_irl (by assumption)
        | with_reducible exact pcO_irr (by assumption)
        | with_reducible exact ih _ _ _ (by assumption)
        | with_reducible exact JB_because_b93 ih (by assumption)
        | with_reducible refine pcO_ite (fun _ => ?_) (fun _ => ?_)
        | with_reducible exact JB_mast (by assumption)
        | with_reducible refine pcO_bind (JB_mast (by assumption)) (fun _ _ => ?_)
        | with_reducible refine pcO_bind (pcO_some (JB_ms (by assumption) (by decide))) (fun _ _ => ?_)
        | with_reducible refine pcO_bind (pcO_some (JB_0 (by assumption))) (fun _ _ => ?_)
        | with_reducible refine pcO_any (pcO_sel (fun _ => ?_) (fun _ => ?_))
        | with_reducible refine pcO_any (fun _ => ?_)
theorem JB_because_l48' {B : Int} {n : Nat} {v3 : Int} {x0 : Int} {x1 : Int} {m : Mu} (h : JB B m) : pcO (m5_because_l48 v3 n x0 x1 m) (fun r : Int × Mu => JB B r.2) := JB_because_l48 n x0 x1 m h
theorem JB_because_l143 {B : Int} {v3 : Int} {v4 : Int} {v5 : Int} {v6 : Int} : ∀ (n : Nat) (x0 : Int) (m : Mu), JB B m → pcO (m5_because_l143 v3 v4 v5 v6 n x0 m) (JB B) := by
    intro n
    induction n with
    | zero => intro x0 m h; exact pcO_none
    | succ n ih =>
      intro x0 m h
      unfold m5_because_l143
      repeat' first
        | with_reducible exact pcO_none
        | with_reducible exact pcO_some (by assumption)
        | with_reducible exact pcO_inl (by assumption)
        | with_reducible exact pcO_inr (by assumption)
        | with_reducible exact pcO_irl (by assumption)
        | with_reducible exact pcO_irr (by assumption)
        | with_reducible exact ih _ _ (by assumption)
        | with_reducible refine pcO_ite (fun _ => ?_) (fun _ => ?_)
        | with_reducible exact JB_mast (by assumption)
        | with_reducible refine pcO_bind (JB_mast (by assumption)) (fun _ _ => ?_)
        | with_reducible refine pcO_bind (pcO_some (JB_ms (by assumption) (by decide))) (fun _ _ => ?_)
        | with_reducible refine pcO_bind (pcO_some (JB_0 (by assumption))) (fun _ _ => ?_)
        | with_reducible refine pcO_any (pcO_sel (fun _ => ?_) (fun _ => ?_))
        | with_reducible refine pcO_any (fun _ => ?_)
theorem JB_because_l143' {B : Int} {n : Nat} {v3 : Int} {v4 : Int} {v5 : Int} {v6 : Int} {x0 : Int} {m : Mu} (h : JB B m) : pcO (m5_because_l143 v3 v4 v5 v6 n x0 m) (JB B) := JB_because_l143 n x0 m h
theorem JB_because_l109 {B : Int} {v3 : Int} {v4 : Int} : ∀ (n : Nat) (x0 : Int) (x1 : Int) (m : Mu), JB B m → pcO (m5_because_l109 v3 v4 n x0 x1 m) (fun r : Int × Mu => JB B r.2) := by
    intro n
    induction n with
    | zero => intro x0 x1 m h; exact pcO_none
    | succ n ih =>
      intro x0 x1 m h
      unfold m5_because_l109
      repeat' first
        | with_reducible exact pcO_none
        | with_reducible exact pcO_some (by assumption)
        | with_reducible exact pcO_inl (by assumption)
        | with_reducible exact pcO_inr (by assumption)
        | with_reducible exact pcO_irl (by assumption)
        | with_reducible exact pcO_irr (by assumption)
        | with_reducible exact ih _ _ _ (by assumption)
        | with_reducible exact JB_because_l143' (by assumption)
        | with_reducible exact JB_settled (by assumption)
        | with_reducible refine pcO_ite (fun _ => ?_) (fun _ => ?_)
        | with_reducible refine pcO_bind (JB_because_l143' (by assumption)) (fun _ _ => ?_)
        | with_reducible refine pcO_bind (JB_settled (by assumption)) (fun _ _ => ?_)
        | with_reducible exact JB_mast (by assumption)
        | with_reducible refine pcO_bind (JB_mast (by assumption)) (fun _ _ => ?_)
        | with_reducible refine pcO_bind (pcO_some (JB_ms (by assumption) (by decide))) (fun _ _ => ?_)
        | with_reducible refine pcO_bind (pcO_some (JB_0 (by assumption))) (fun _ _ => ?_)
        | with_reducible refine pcO_any (pcO_sel (fun _ => ?_) (fun _ => ?_))
        | with_reducible refine pcO_any (fun _ => ?_)
theorem JB_because_l109' {B : Int} {n : Nat} {v3 : Int} {v4 : Int} {x0 : Int} {x1 : Int} {m : Mu} (h : JB B m) : pcO (m5_because_l109 v3 v4 n x0 x1 m) (fun r : Int × Mu => JB B r.2) := JB_because_l109 n x0 x1 m h
theorem JB_because {B : Int} {m : Mu} {v1 : Int} {v2 : Int} (h : JB B m) : pcO (m5_because v1 v2 m) (fun r : Int × Mu => JB B r.2) := by
    unfold m5_because
    repeat' first
      | with_reducible exact pcO_none
      | with_reducible exact pcO_some (by assumption)
      | with_reducible exact pcO_inl (by assumption)
      | with_reducible exact pcO_inr (by assumption)
      | with_reducible exact pcO_irl (by assumption)
      | with_reducible exact pcO_irr (by assumption)
      | with_reducible exact JB_takeDigits (by assumption)
      | with_reducible exact JB_settled (by assumption)
      | with_reducible exact JB_because_l48' (by assumption)
      | with_reducible exact JB_because_l109' (by assumption)
      | with_reducible refine pcO_ite (fun _ => ?_) (fun _ => ?_)
      | with_reducible refine pcO_bind (JB_takeDigits (by assumption)) (fun _ _ => ?_)
      | with_reducible refine pcO_bind (JB_settled (by assumption)) (fun _ _ => ?_)
      | with_reducible refine pcO_bind (JB_because_l48' (by assumption)) (fun _ _ => ?_)
      | with_reducible refine pcO_bind (JB_because_l109' (by assumption)) (fun _ _ => ?_)
      | with_reducible exact JB_mast (by assumption)
      | with_reducible refine pcO_bind (JB_mast (by assumption)) (fun _ _ => ?_)
      | with_reducible refine pcO_bind (pcO_some (JB_ms (by assumption) (by decide))) (fun _ _ => ?_)
      | with_reducible refine pcO_bind (pcO_some (JB_0 (by assumption))) (fun _ _ => ?_)
      | with_reducible refine pcO_any (pcO_sel (fun _ => ?_) (fun _ => ?_))
      | with_reducible refine pcO_any (fun _ => ?_)
theorem JB_decider_l26 {B : Int} {v1 : Int} {v2 : Int} {v3 : Int} : ∀ (n : Nat) (x0 : Int) (m : Mu), JB B m → pcO (m5_decider_l26 v1 v2 v3 n x0 m) (Sum.elim (JB B) (JB B)) := by
    intro n
    induction n with
    | zero => intro x0 m h; exact pcO_none
    | succ n ih =>
      intro x0 m h
      unfold m5_decider_l26
      repeat' first
        | with_reducible exact pcO_none
        | with_reducible exact pcO_some (by assumption)
        | with_reducible exact pcO_inl (by assumption)
        | with_reducible exact pcO_inr (by assumption)
        | with_reducible exact pcO_irl (by assumption)
        | with_reducible exact pcO_irr (by assumption)
        | with_reducible exact ih _ _ (by assumption)
        | with_reducible refine pcO_ite (fun _ => ?_) (fun _ => ?_)
        | with_reducible exact JB_mast (by assumption)
        | with_reducible refine pcO_bind (JB_mast (by assumption)) (fun _ _ => ?_)
        | with_reducible refine pcO_bind (pcO_some (JB_ms (by assumption) (by decide))) (fun _ _ => ?_)
        | with_reducible refine pcO_bind (pcO_some (JB_0 (by assumption))) (fun _ _ => ?_)
        | with_reducible refine pcO_any (pcO_sel (fun _ => ?_) (fun _ => ?_))
        | with_reducible refine pcO_any (fun _ => ?_)
theorem JB_decider_l26' {B : Int} {n : Nat} {v1 : Int} {v2 : Int} {v3 : Int} {x0 : Int} {m : Mu} (h : JB B m) : pcO (m5_decider_l26 v1 v2 v3 n x0 m) (Sum.elim (JB B) (JB B)) := JB_decider_l26 n x0 m h
theorem JB_decider {B : Int} {m : Mu} {v1 : Int} {v2 : Int} (h : JB B m) : pcO (m5_decider v1 v2 m) (fun r : Int × Mu => JB B r.2) := by
    unfold m5_decider
    repeat' first
      | with_reducible exact pcO_none
      | with_reducible exact pcO_some (by assumption)
      | with_reducible exact pcO_inl (by assumption)
      | with_reducible exact pcO_inr (by assumption)
      | with_reducible exact pcO_irl (by assumption)
      | with_reducible exact pcO_irr (by assumption)
      | with_reducible exact JB_decider_l26' (by assumption)
      | with_reducible exact JB_answers (by assumption)
      | with_reducible refine pcO_ite (fun _ => ?_) (fun _ => ?_)
      | with_reducible refine pcO_s2 (JB_decider_l26' (by assumption)) (fun _ _ => ?_) (fun _ _ => ?_)
      | with_reducible refine pcO_bind (JB_answers (by assumption)) (fun _ _ => ?_)
      | with_reducible exact JB_mast (by assumption)
      | with_reducible refine pcO_bind (JB_mast (by assumption)) (fun _ _ => ?_)
      | with_reducible refine pcO_bind (pcO_some (JB_ms (by assumption) (by decide))) (fun _ _ => ?_)
      | with_reducible refine pcO_bind (pcO_some (JB_0 (by assumption))) (fun _ _ => ?_)
      | with_reducible refine pcO_any (pcO_sel (fun _ => ?_) (fun _ => ?_))
      | with_reducible refine pcO_any (fun _ => ?_)
theorem JB_countWays_b42 {B : Int} {m : Mu} {v1 : Int} {s1 : Int} {kh : Int → Mu → Option (Mu)} (hk : ∀ (y0 : Int) (q : Mu), JB B q → pcO (kh y0 q) (JB B)) (h : JB B m) : pcO (m5_countWays_b42 kh v1 s1 m) (JB B) := by
    unfold m5_countWays_b42
    repeat' first
      | with_reducible exact pcO_none
      | with_reducible exact pcO_some (by assumption)
      | with_reducible exact pcO_inl (by assumption)
      | with_reducible exact pcO_inr (by assumption)
      | with_reducible exact pcO_irl (by assumption)
      | with_reducible exact pcO_irr (by assumption)
      | with_reducible exact hk _ _ (by assumption)
      | with_reducible exact JB_nextWay (by assumption)
      | with_reducible refine pcO_ite (fun _ => ?_) (fun _ => ?_)
      | with_reducible refine pcO_bind (JB_nextWay (by assumption)) (fun _ _ => ?_)
      | with_reducible exact JB_mast (by assumption)
      | with_reducible refine pcO_bind (JB_mast (by assumption)) (fun _ _ => ?_)
      | with_reducible refine pcO_bind (pcO_some (JB_ms (by assumption) (by decide))) (fun _ _ => ?_)
      | with_reducible refine pcO_bind (pcO_some (JB_0 (by assumption))) (fun _ _ => ?_)
      | with_reducible refine pcO_any (pcO_sel (fun _ => ?_) (fun _ => ?_))
      | with_reducible refine pcO_any (fun _ => ?_)
theorem JB_countWays_l21 {B : Int} {v1 : Int} : ∀ (n : Nat) (x0 : Int) (m : Mu), JB B m → pcO (m5_countWays_l21 v1 n x0 m) (JB B) := by
    intro n
    induction n with
    | zero => intro x0 m h; exact pcO_none
    | succ n ih =>
      intro x0 m h
      unfold m5_countWays_l21
      repeat' first
        | with_reducible exact pcO_none
        | with_reducible exact pcO_some (by assumption)
        | with_reducible exact pcO_inl (by assumption)
        | with_reducible exact pcO_inr (by assumption)
        | with_reducible exact pcO_irl (by assumption)
        | with_reducible exact pcO_irr (by assumption)
        | with_reducible exact ih _ _ (by assumption)
        | with_reducible exact JB_countWays_b42 ih (by assumption)
        | with_reducible refine pcO_ite (fun _ => ?_) (fun _ => ?_)
        | with_reducible exact JB_mast (by assumption)
        | with_reducible refine pcO_bind (JB_mast (by assumption)) (fun _ _ => ?_)
        | with_reducible refine pcO_bind (pcO_some (JB_ms (by assumption) (by decide))) (fun _ _ => ?_)
        | with_reducible refine pcO_bind (pcO_some (JB_0 (by assumption))) (fun _ _ => ?_)
        | with_reducible refine pcO_any (pcO_sel (fun _ => ?_) (fun _ => ?_))
        | with_reducible refine pcO_any (fun _ => ?_)
theorem JB_countWays_l21' {B : Int} {n : Nat} {v1 : Int} {x0 : Int} {m : Mu} (h : JB B m) : pcO (m5_countWays_l21 v1 n x0 m) (JB B) := JB_countWays_l21 n x0 m h
theorem JB_countWays {B : Int} {m : Mu} {v1 : Int} (h : JB B m) : pcO (m5_countWays v1 m) (JB B) := by
    unfold m5_countWays
    repeat' first
      | with_reducible exact pcO_none
      | with_reducible exact pcO_some (by assumption)
      | with_reducible exact pcO_inl (by assumption)
      | with_reducible exact pcO_inr (by assumption)
      | with_reducible exact pcO_irl (by assumption)
      | with_reducible exact pcO_irr (by assumption)
      | with_reducible exact JB_firstWay (by assumption)
      | with_reducible exact JB_countWays_l21' (by assumption)
      | with_reducible refine pcO_ite (fun _ => ?_) (fun _ => ?_)
      | with_reducible refine pcO_bind (JB_firstWay (by assumption)) (fun _ _ => ?_)
      | with_reducible refine pcO_bind (JB_countWays_l21' (by assumption)) (fun _ _ => ?_)
      | with_reducible exact JB_mast (by assumption)
      | with_reducible refine pcO_bind (JB_mast (by assumption)) (fun _ _ => ?_)
      | with_reducible refine pcO_bind (pcO_some (JB_ms (by assumption) (by decide))) (fun _ _ => ?_)
      | with_reducible refine pcO_bind (pcO_some (JB_0 (by assumption))) (fun _ _ => ?_)
      | with_reducible refine pcO_any (pcO_sel (fun _ => ?_) (fun _ => ?_))
      | with_reducible refine pcO_any (fun _ => ?_)
theorem JB_ways {B : Int} {m : Mu} {v1 : Int} {v2 : Int} {v3 : Int} (h : JB B m) : pcO (m5_ways v1 v2 v3 m) (fun r : Int × Mu => JB B r.2) := by
    unfold m5_ways
    repeat' first
      | with_reducible exact pcO_none
      | with_reducible exact pcO_some (by assumption)
      | with_reducible exact pcO_inl (by assumption)
      | with_reducible exact pcO_inr (by assumption)
      | with_reducible exact pcO_irl (by assumption)
      | with_reducible exact pcO_irr (by assumption)
      | with_reducible exact JB_takeDigits (by assumption)
      | with_reducible exact JB_countWays (by assumption)
      | with_reducible refine pcO_ite (fun _ => ?_) (fun _ => ?_)
      | with_reducible refine pcO_bind (JB_takeDigits (by assumption)) (fun _ _ => ?_)
      | with_reducible refine pcO_bind (JB_countWays (by assumption)) (fun _ _ => ?_)
      | with_reducible exact JB_mast (by assumption)
      | with_reducible refine pcO_bind (JB_mast (by assumption)) (fun _ _ => ?_)
      | with_reducible refine pcO_bind (pcO_some (JB_ms (by assumption) (by decide))) (fun _ _ => ?_)
      | with_reducible refine pcO_bind (pcO_some (JB_0 (by assumption))) (fun _ _ => ?_)
      | with_reducible refine pcO_any (pcO_sel (fun _ => ?_) (fun _ => ?_))
      | with_reducible refine pcO_any (fun _ => ?_)
theorem JB_rowHolds_l43 {B : Int} {v1 : Int} {v3 : Int} {v4 : Int} : ∀ (n : Nat) (x0 : Int) (m : Mu), JB B m → pcO (m5_rowHolds_l43 v1 v3 v4 n x0 m) (JB B) := by
    intro n
    induction n with
    | zero => intro x0 m h; exact pcO_none
    | succ n ih =>
      intro x0 m h
      unfold m5_rowHolds_l43
      repeat' first
        | with_reducible exact pcO_none
        | with_reducible exact pcO_some (by assumption)
        | with_reducible exact pcO_inl (by assumption)
        | with_reducible exact pcO_inr (by assumption)
        | with_reducible exact pcO_irl (by assumption)
        | with_reducible exact pcO_irr (by assumption)
        | with_reducible exact ih _ _ (by assumption)
        | with_reducible refine pcO_ite (fun _ => ?_) (fun _ => ?_)
        | with_reducible exact JB_mast (by assumption)
        | with_reducible refine pcO_bind (JB_mast (by assumption)) (fun _ _ => ?_)
        | with_reducible refine pcO_bind (pcO_some (JB_ms (by assumption) (by decide))) (fun _ _ => ?_)
        | with_reducible refine pcO_bind (pcO_some (JB_0 (by assumption))) (fun _ _ => ?_)
        | with_reducible refine pcO_any (pcO_sel (fun _ => ?_) (fun _ => ?_))
        | with_reducible refine pcO_any (fun _ => ?_)
theorem JB_rowHolds_l43' {B : Int} {n : Nat} {v1 : Int} {v3 : Int} {v4 : Int} {x0 : Int} {m : Mu} (h : JB B m) : pcO (m5_rowHolds_l43 v1 v3 v4 n x0 m) (JB B) := JB_rowHolds_l43 n x0 m h
theorem JB_rowHolds_b137 {B : Int} {m : Mu} {v1 : Int} {v3 : Int} {v6 : Int} {kh : Int → Int → Mu → Option ((Mu) ⊕ (Int × Mu))} (hk : ∀ (y0 : Int) (y1 : Int) (q : Mu), JB B q → pcO (kh y0 y1 q) (Sum.elim (JB B) (fun r : Int × Mu => JB B r.2))) (h : JB B m) : pcO (m5_rowHolds_b137 kh v1 v3 v6 m) (Sum.elim (JB B) (fun r : Int × Mu => JB B r.2)) := by
    unfold m5_rowHolds_b137
    repeat' first
      | with_reducible exact pcO_none
      | with_reducible exact pcO_some (by assumption)
      | with_reducible exact pcO_inl (by assumption)
      | with_reducible exact pcO_inr (by assumption)
      | with_reducible exact pcO_irl (by assumption)
      | with_reducible exact pcO_irr (by assumption)
      | with_reducible exact hk _ _ _ (by assumption)
      | with_reducible exact JB_nextWay (by assumption)
      | with_reducible refine pcO_ite (fun _ => ?_) (fun _ => ?_)
      | with_reducible refine pcO_bind (JB_nextWay (by assumption)) (fun _ _ => ?_)
      | with_reducible exact JB_mast (by assumption)
      | with_reducible refine pcO_bind (JB_mast (by assumption)) (fun _ _ => ?_)
      | with_reducible refine pcO_bind (pcO_some (JB_ms (by assumption) (by decide))) (fun _ _ => ?_)
      | with_reducible refine pcO_bind (pcO_some (JB_0 (by assumption))) (fun _ _ => ?_)
      | with_reducible refine pcO_any (pcO_sel (fun _ => ?_) (fun _ => ?_))
      | with_reducible refine pcO_any (fun _ => ?_)
theorem JB_rowHolds_b121 {B : Int} {m : Mu} {v1 : Int} {v3 : Int} {v4 : Int} {s0 : Int} {kh : Int → Int → Mu → Option ((Mu) ⊕ (Int × Mu))} (hk : ∀ (y0 : Int) (y1 : Int) (q : Mu), JB B q → pcO (kh y0 y1 q) (Sum.elim (JB B) (fun r : Int × Mu => JB B r.2))) (h : JB B m) : pcO (m5_rowHolds_b121 kh v1 v3 v4 s0 m) (Sum.elim (JB B) (fun r : Int × Mu => JB B r.2)) := by
    unfold m5_rowHolds_b121
    repeat' first
      | with_reducible exact pcO_none
      | with_reducible exact pcO_some (by assumption)
      | with_reducible exact pcO_inl (by assumption)
      | with_reducible exact pcO_inr (by assumption)
      | with_reducible exact pcO_irl (by assumption)
      | with_reducible exact pcO_irr (by assumption)
      | with_reducible exact hk _ _ _ (by assumption)
      | with_reducible exact JB_rowHolds_b137 hk (by assumption)
      | with_reducible refine pcO_ite (fun _ => ?_) (fun _ => ?_)
      | with_reducible exact JB_mast (by assumption)
      | with_reducible refine pcO_bind (JB_mast (by assumption)) (fun _ _ => ?_)
      | with_reducible refine pcO_bind (pcO_some (JB_ms (by assumption) (by decide))) (fun _ _ => ?_)
      | with_reducible refine pcO_bind (pcO_some (JB_0 (by assumption))) (fun _ _ => ?_)
      | with_reducible refine pcO_any (pcO_sel (fun _ => ?_) (fun _ => ?_))
      | with_reducible refine pcO_any (fun _ => ?_)
theorem JB_rowHolds_l35 {B : Int} {v1 : Int} {v3 : Int} : ∀ (n : Nat) (x0 : Int) (x1 : Int) (m : Mu), JB B m → pcO (m5_rowHolds_l35 v1 v3 n x0 x1 m) (Sum.elim (JB B) (fun r : Int × Mu => JB B r.2)) := by
    intro n
    induction n with
    | zero => intro x0 x1 m h; exact pcO_none
    | succ n ih =>
      intro x0 x1 m h
      unfold m5_rowHolds_l35
      repeat' first
        | with_reducible exact pcO_none
        | with_reducible exact pcO_some (by assumption)
        | with_reducible exact pcO_inl (by assumption)
        | with_reducible exact pcO_inr (by assumption)
        | with_reducible exact pcO_irl (by assumption)
        | with_reducible exact pcO_irr (by assumption)
        | with_reducible exact ih _ _ _ (by assumption)
        | with_reducible exact JB_rowHolds_l43' (by assumption)
        | with_reducible exact JB_findMeant (by assumption)
        | with_reducible exact JB_isTrue (by assumption)
        | with_reducible exact JB_rowHolds_b121 ih (by assumption)
        | with_reducible refine pcO_ite (fun _ => ?_) (fun _ => ?_)
        | with_reducible refine pcO_bind (JB_rowHolds_l43' (by assumption)) (fun _ _ => ?_)
        | with_reducible refine pcO_bind (JB_findMeant (by assumption)) (fun _ _ => ?_)
        | with_reducible refine pcO_bind (JB_isTrue (by assumption)) (fun _ _ => ?_)
        | with_reducible exact JB_mast (by assumption)
        | with_reducible refine pcO_bind (JB_mast (by assumption)) (fun _ _ => ?_)
        | with_reducible refine pcO_bind (pcO_some (JB_ms (by assumption) (by decide))) (fun _ _ => ?_)
        | with_reducible refine pcO_bind (pcO_some (JB_0 (by assumption))) (fun _ _ => ?_)
        | with_reducible refine pcO_any (pcO_sel (fun _ => ?_) (fun _ => ?_))
        | with_reducible refine pcO_any (fun _ => ?_)
theorem JB_rowHolds_l35' {B : Int} {n : Nat} {v1 : Int} {v3 : Int} {x0 : Int} {x1 : Int} {m : Mu} (h : JB B m) : pcO (m5_rowHolds_l35 v1 v3 n x0 x1 m) (Sum.elim (JB B) (fun r : Int × Mu => JB B r.2)) := JB_rowHolds_l35 n x0 x1 m h
theorem JB_rowHolds {B : Int} {m : Mu} {v1 : Int} {v2 : Int} (h : JB B m) : pcO (m5_rowHolds v1 v2 m) (fun r : Int × Mu => JB B r.2) := by
    unfold m5_rowHolds
    repeat' first
      | with_reducible exact pcO_none
      | with_reducible exact pcO_some (by assumption)
      | with_reducible exact pcO_inl (by assumption)
      | with_reducible exact pcO_inr (by assumption)
      | with_reducible exact pcO_irl (by assumption)
      | with_reducible exact pcO_irr (by assumption)
      | with_reducible exact JB_firstWay (by assumption)
      | with_reducible exact JB_rowHolds_l35' (by assumption)
      | with_reducible refine pcO_ite (fun _ => ?_) (fun _ => ?_)
      | with_reducible refine pcO_bind (JB_firstWay (by assumption)) (fun _ _ => ?_)
      | with_reducible refine pcO_s2 (JB_rowHolds_l35' (by assumption)) (fun _ _ => ?_) (fun _ _ => ?_)
      | with_reducible exact JB_mast (by assumption)
      | with_reducible refine pcO_bind (JB_mast (by assumption)) (fun _ _ => ?_)
      | with_reducible refine pcO_bind (pcO_some (JB_ms (by assumption) (by decide))) (fun _ _ => ?_)
      | with_reducible refine pcO_bind (pcO_some (JB_0 (by assumption))) (fun _ _ => ?_)
      | with_reducible refine pcO_any (pcO_sel (fun _ => ?_) (fun _ => ?_))
      | with_reducible refine pcO_any (fun _ => ?_)
theorem JB_price_b122 {B : Int} {m : Mu} {v3 : Int} {v4 : Int} {v6 : Int} {v8 : Int} {v11 : Int} {kh : Int → Int → Int → Mu → Option ((Int × Mu) ⊕ (Mu) ⊕ (Int × Int × Mu))} (hk : ∀ (y0 : Int) (y1 : Int) (y2 : Int) (q : Mu), JB B q → pcO (kh y0 y1 y2 q) (Sum.elim (fun r : Int × Mu => JB B r.2) (Sum.elim (JB B) (fun r : Int × Int × Mu => JB B r.2.2)))) (h : JB B m) : pcO (m5_price_b122 kh v3 v4 v6 v8 v11 m) (Sum.elim (fun r : Int × Mu => JB B r.2) (Sum.elim (JB B) (fun r : Int × Int × Mu => JB B r.2.2))) := by
    unfold m5_price_b122
    repeat' first
      | with_reducible exact pcO_none
      | with_reducible exact pcO_some (by assumption)
      | with_reducible exact pcO_inl (by assumption)
      | with_reducible exact pcO_inr (by assumption)
      | with_reducible exact pcO_irl (by assumption)
      | with_reducible exact pcO_irr (by assumption)
      | with_reducible exact hk _ _ _ _ (by assumption)
      | with_reducible refine pcO_ite (fun _ => ?_) (fun _ => ?_)
      | with_reducible exact JB_mast (by assumption)
      | with_reducible refine pcO_bind (JB_mast (by assumption)) (fun _ _ => ?_)
      | with_reducible refine pcO_bind (pcO_some (JB_ms (by assumption) (by decide))) (fun _ _ => ?_)
      | with_reducible refine pcO_bind (pcO_some (JB_0 (by assumption))) (fun _ _ => ?_)
      | with_reducible refine pcO_any (pcO_sel (fun _ => ?_) (fun _ => ?_))
      | with_reducible refine pcO_any (fun _ => ?_)
theorem JB_price_l39 {B : Int} {v3 : Int} : ∀ (n : Nat) (x0 : Int) (x1 : Int) (x2 : Int) (m : Mu), JB B m → pcO (m5_price_l39 v3 n x0 x1 x2 m) (Sum.elim (fun r : Int × Mu => JB B r.2) (Sum.elim (JB B) (fun r : Int × Int × Mu => JB B r.2.2))) := by
    intro n
    induction n with
    | zero => intro x0 x1 x2 m h; exact pcO_none
    | succ n ih =>
      intro x0 x1 x2 m h
      unfold m5_price_l39
      repeat' first
        | with_reducible exact pcO_none
        | with_reducible exact pcO_some (by assumption)
        | with_reducible exact pcO_inl (by assumption)
        | with_reducible exact pcO_inr (by assumption)
        | with_reducible exact pcO_irl (by assumption)
        | with_reducible exact pcO_irr (by assumption)
        | with_reducible exact ih _ _ _ _ (by assumption)
        | with_reducible exact JB_rowHolds (by assumption)
        | with_reducible exact JB_price_b122 ih (by assumption)
        | with_reducible refine pcO_ite (fun _ => ?_) (fun _ => ?_)
        | with_reducible refine pcO_bind (JB_rowHolds (by assumption)) (fun _ _ => ?_)
        | with_reducible exact JB_mast (by assumption)
        | with_reducible refine pcO_bind (JB_mast (by assumption)) (fun _ _ => ?_)
        | with_reducible refine pcO_bind (pcO_some (JB_ms (by assumption) (by decide))) (fun _ _ => ?_)
        | with_reducible refine pcO_bind (pcO_some (JB_0 (by assumption))) (fun _ _ => ?_)
        | with_reducible refine pcO_any (pcO_sel (fun _ => ?_) (fun _ => ?_))
        | with_reducible refine pcO_any (fun _ => ?_)
theorem JB_price_l39' {B : Int} {n : Nat} {v3 : Int} {x0 : Int} {x1 : Int} {x2 : Int} {m : Mu} (h : JB B m) : pcO (m5_price_l39 v3 n x0 x1 x2 m) (Sum.elim (fun r : Int × Mu => JB B r.2) (Sum.elim (JB B) (fun r : Int × Int × Mu => JB B r.2.2))) := JB_price_l39 n x0 x1 x2 m h
theorem JB_price {B : Int} {m : Mu} {v1 : Int} {v2 : Int} (h : JB B m) : pcO (m5_price v1 v2 m) (fun r : Int × Mu => JB B r.2) := by
    unfold m5_price
    repeat' first
      | with_reducible exact pcO_none
      | with_reducible exact pcO_some (by assumption)
      | with_reducible exact pcO_inl (by assumption)
      | with_reducible exact pcO_inr (by assumption)
      | with_reducible exact pcO_irl (by assumption)
      | with_reducible exact pcO_irr (by assumption)
      | with_reducible exact JB_takeDigits (by assumption)
      | with_reducible exact JB_price_l39' (by assumption)
      | with_reducible refine pcO_ite (fun _ => ?_) (fun _ => ?_)
      | with_reducible refine pcO_bind (JB_takeDigits (by assumption)) (fun _ _ => ?_)
      | with_reducible refine pcO_s3 (JB_price_l39' (by assumption)) (fun _ _ => ?_) (fun _ _ => ?_) (fun _ _ => ?_)
      | with_reducible exact JB_mast (by assumption)
      | with_reducible refine pcO_bind (JB_mast (by assumption)) (fun _ _ => ?_)
      | with_reducible refine pcO_bind (pcO_some (JB_ms (by assumption) (by decide))) (fun _ _ => ?_)
      | with_reducible refine pcO_bind (pcO_some (JB_0 (by assumption))) (fun _ _ => ?_)
      | with_reducible refine pcO_any (pcO_sel (fun _ => ?_) (fun _ => ?_))
      | with_reducible refine pcO_any (fun _ => ?_)
theorem JB_policy {B : Int} {m : Mu} (h : JB B m) : pcO (m5_policy m) (fun r : Int × Mu => JB B r.2) := by
    unfold m5_policy
    repeat' first
      | with_reducible exact pcO_none
      | with_reducible exact pcO_some (by assumption)
      | with_reducible exact pcO_inl (by assumption)
      | with_reducible exact pcO_inr (by assumption)
      | with_reducible exact pcO_irl (by assumption)
      | with_reducible exact pcO_irr (by assumption)
      | with_reducible refine pcO_ite (fun _ => ?_) (fun _ => ?_)
      | with_reducible exact JB_mast (by assumption)
      | with_reducible refine pcO_bind (JB_mast (by assumption)) (fun _ _ => ?_)
      | with_reducible refine pcO_bind (pcO_some (JB_ms (by assumption) (by decide))) (fun _ _ => ?_)
      | with_reducible refine pcO_bind (pcO_some (JB_0 (by assumption))) (fun _ _ => ?_)
      | with_reducible refine pcO_any (pcO_sel (fun _ => ?_) (fun _ => ?_))
      | with_reducible refine pcO_any (fun _ => ?_)
theorem JB_change_b65 {B : Int} {m : Mu} {v1 : Int} {v2 : Int} {v3 : Int} {v4 : Int} {v5 : Int} (h : JB B m) : pcO (m5_change_b65 v1 v2 v3 v4 v5 m) (fun r : Int × Mu => JB B r.2) := by
    unfold m5_change_b65
    repeat' first
      | with_reducible exact pcO_none
      | with_reducible exact pcO_some (by assumption)
      | with_reducible exact pcO_inl (by assumption)
      | with_reducible exact pcO_inr (by assumption)
      | with_reducible exact pcO_irl (by assumption)
      | with_reducible exact pcO_irr (by assumption)
      | with_reducible refine pcO_ite (fun _ => ?_) (fun _ => ?_)
      | with_reducible exact JB_mast (by assumption)
      | with_reducible refine pcO_bind (JB_mast (by assumption)) (fun _ _ => ?_)
      | with_reducible refine pcO_bind (pcO_some (JB_ms (by assumption) (by decide))) (fun _ _ => ?_)
      | with_reducible refine pcO_bind (pcO_some (JB_0 (by assumption))) (fun _ _ => ?_)
      | with_reducible refine pcO_any (pcO_sel (fun _ => ?_) (fun _ => ?_))
      | with_reducible refine pcO_any (fun _ => ?_)
theorem JB_change_b51 {B : Int} {m : Mu} {v1 : Int} {v2 : Int} {v3 : Int} {v4 : Int} {v5 : Int} (h : JB B m) : pcO (m5_change_b51 v1 v2 v3 v4 v5 m) (fun r : Int × Mu => JB B r.2) := by
    unfold m5_change_b51
    repeat' first
      | with_reducible exact pcO_none
      | with_reducible exact pcO_some (by assumption)
      | with_reducible exact pcO_inl (by assumption)
      | with_reducible exact pcO_inr (by assumption)
      | with_reducible exact pcO_irl (by assumption)
      | with_reducible exact pcO_irr (by assumption)
      | with_reducible exact JB_change_b65 (by assumption)
      | with_reducible refine pcO_ite (fun _ => ?_) (fun _ => ?_)
      | with_reducible refine pcO_bind (JB_change_b65 (by assumption)) (fun _ _ => ?_)
      | with_reducible exact JB_mast (by assumption)
      | with_reducible refine pcO_bind (JB_mast (by assumption)) (fun _ _ => ?_)
      | with_reducible refine pcO_bind (pcO_some (JB_ms (by assumption) (by decide))) (fun _ _ => ?_)
      | with_reducible refine pcO_bind (pcO_some (JB_0 (by assumption))) (fun _ _ => ?_)
      | with_reducible refine pcO_any (pcO_sel (fun _ => ?_) (fun _ => ?_))
      | with_reducible refine pcO_any (fun _ => ?_)
theorem JB_change_b35 {B : Int} {m : Mu} {v1 : Int} {v2 : Int} {v3 : Int} {v4 : Int} {v5 : Int} (h : JB B m) : pcO (m5_change_b35 v1 v2 v3 v4 v5 m) (fun r : Int × Mu => JB B r.2) := by
    unfold m5_change_b35
    repeat' first
      | with_reducible exact pcO_none
      | with_reducible exact pcO_some (by assumption)
      | with_reducible exact pcO_inl (by assumption)
      | with_reducible exact pcO_inr (by assumption)
      | with_reducible exact pcO_irl (by assumption)
      | with_reducible exact pcO_irr (by assumption)
      | with_reducible exact JB_change_b51 (by assumption)
      | with_reducible refine pcO_ite (fun _ => ?_) (fun _ => ?_)
      | with_reducible refine pcO_bind (JB_change_b51 (by assumption)) (fun _ _ => ?_)
      | with_reducible exact JB_mast (by assumption)
      | with_reducible refine pcO_bind (JB_mast (by assumption)) (fun _ _ => ?_)
      | with_reducible refine pcO_bind (pcO_some (JB_ms (by assumption) (by decide))) (fun _ _ => ?_)
      | with_reducible refine pcO_bind (pcO_some (JB_0 (by assumption))) (fun _ _ => ?_)
      | with_reducible refine pcO_any (pcO_sel (fun _ => ?_) (fun _ => ?_))
      | with_reducible refine pcO_any (fun _ => ?_)
theorem JB_change {B : Int} {m : Mu} {v1 : Int} {v2 : Int} {v3 : Int} {v4 : Int} {v5 : Int} (h : JB B m) : pcO (m5_change v1 v2 v3 v4 v5 m) (fun r : Int × Mu => JB B r.2) := by
    unfold m5_change
    repeat' first
      | with_reducible exact pcO_none
      | with_reducible exact pcO_some (by assumption)
      | with_reducible exact pcO_inl (by assumption)
      | with_reducible exact pcO_inr (by assumption)
      | with_reducible exact pcO_irl (by assumption)
      | with_reducible exact pcO_irr (by assumption)
      | with_reducible exact JB_change_b35 (by assumption)
      | with_reducible refine pcO_ite (fun _ => ?_) (fun _ => ?_)
      | with_reducible refine pcO_bind (JB_change_b35 (by assumption)) (fun _ _ => ?_)
      | with_reducible exact JB_mast (by assumption)
      | with_reducible refine pcO_bind (JB_mast (by assumption)) (fun _ _ => ?_)
      | with_reducible refine pcO_bind (pcO_some (JB_ms (by assumption) (by decide))) (fun _ _ => ?_)
      | with_reducible refine pcO_bind (pcO_some (JB_0 (by assumption))) (fun _ _ => ?_)
      | with_reducible refine pcO_any (pcO_sel (fun _ => ?_) (fun _ => ?_))
      | with_reducible refine pcO_any (fun _ => ?_)
theorem JB_claim {B : Int} {m : Mu} {v1 : Int} {v2 : Int} {v3 : Int} {v4 : Int} (h : JB B m) : pcO (m5_claim v1 v2 v3 v4 m) (fun r : Int × Mu => JB B r.2) := by
    unfold m5_claim
    repeat' first
      | with_reducible exact pcO_none
      | with_reducible exact pcO_some (by assumption)
      | with_reducible exact pcO_inl (by assumption)
      | with_reducible exact pcO_inr (by assumption)
      | with_reducible exact pcO_irl (by assumption)
      | with_reducible exact pcO_irr (by assumption)
      | with_reducible refine pcO_ite (fun _ => ?_) (fun _ => ?_)
      | with_reducible exact JB_mast (by assumption)
      | with_reducible refine pcO_bind (JB_mast (by assumption)) (fun _ _ => ?_)
      | with_reducible refine pcO_bind (pcO_some (JB_ms (by assumption) (by decide))) (fun _ _ => ?_)
      | with_reducible refine pcO_bind (pcO_some (JB_0 (by assumption))) (fun _ _ => ?_)
      | with_reducible refine pcO_any (pcO_sel (fun _ => ?_) (fun _ => ?_))
      | with_reducible refine pcO_any (fun _ => ?_)
theorem JB_loss {B : Int} {m : Mu} {v1 : Int} {v2 : Int} {v3 : Int} (h : JB B m) : pcO (m5_loss v1 v2 v3 m) (fun r : Int × Mu => JB B r.2) := by
    unfold m5_loss
    repeat' first
      | with_reducible exact pcO_none
      | with_reducible exact pcO_some (by assumption)
      | with_reducible exact pcO_inl (by assumption)
      | with_reducible exact pcO_inr (by assumption)
      | with_reducible exact pcO_irl (by assumption)
      | with_reducible exact pcO_irr (by assumption)
      | with_reducible refine pcO_ite (fun _ => ?_) (fun _ => ?_)
      | with_reducible exact JB_mast (by assumption)
      | with_reducible refine pcO_bind (JB_mast (by assumption)) (fun _ _ => ?_)
      | with_reducible refine pcO_bind (pcO_some (JB_ms (by assumption) (by decide))) (fun _ _ => ?_)
      | with_reducible refine pcO_bind (pcO_some (JB_0 (by assumption))) (fun _ _ => ?_)
      | with_reducible refine pcO_any (pcO_sel (fun _ => ?_) (fun _ => ?_))
      | with_reducible refine pcO_any (fun _ => ?_)
theorem JB_due_b378 {B : Int} {m : Mu} {v2 : Int} {v3 : Int} {v4 : Int} {v9 : Int} {s0 : Int} (h : JB B m) : pcO (m5_due_b378 v2 v3 v4 v9 s0 m) (fun r : Int × Mu => JB B r.2) := by
    unfold m5_due_b378
    repeat' first
      | with_reducible exact pcO_none
      | with_reducible exact pcO_some (by assumption)
      | with_reducible exact pcO_inl (by assumption)
      | with_reducible exact pcO_inr (by assumption)
      | with_reducible exact pcO_irl (by assumption)
      | with_reducible exact pcO_irr (by assumption)
      | with_reducible refine pcO_ite (fun _ => ?_) (fun _ => ?_)
      | with_reducible exact JB_mast (by assumption)
      | with_reducible refine pcO_bind (JB_mast (by assumption)) (fun _ _ => ?_)
      | with_reducible refine pcO_bind (pcO_some (JB_ms (by assumption) (by decide))) (fun _ _ => ?_)
      | with_reducible refine pcO_bind (pcO_some (JB_0 (by assumption))) (fun _ _ => ?_)
      | with_reducible refine pcO_any (pcO_sel (fun _ => ?_) (fun _ => ?_))
      | with_reducible refine pcO_any (fun _ => ?_)
theorem JB_due_b341 {B : Int} {m : Mu} {v2 : Int} {v3 : Int} {v4 : Int} {v9 : Int} {v11 : Int} {s0 : Int} (h : JB B m) : pcO (m5_due_b341 v2 v3 v4 v9 v11 s0 m) (fun r : Int × Mu => JB B r.2) := by
    unfold m5_due_b341
    repeat' first
      | with_reducible exact pcO_none
      | with_reducible exact pcO_some (by assumption)
      | with_reducible exact pcO_inl (by assumption)
      | with_reducible exact pcO_inr (by assumption)
      | with_reducible exact pcO_irl (by assumption)
      | with_reducible exact pcO_irr (by assumption)
      | with_reducible exact JB_due_b378 (by assumption)
      | with_reducible refine pcO_ite (fun _ => ?_) (fun _ => ?_)
      | with_reducible refine pcO_bind (JB_due_b378 (by assumption)) (fun _ _ => ?_)
      | with_reducible exact JB_mast (by assumption)
      | with_reducible refine pcO_bind (JB_mast (by assumption)) (fun _ _ => ?_)
      | with_reducible refine pcO_bind (pcO_some (JB_ms (by assumption) (by decide))) (fun _ _ => ?_)
      | with_reducible refine pcO_bind (pcO_some (JB_0 (by assumption))) (fun _ _ => ?_)
      | with_reducible refine pcO_any (pcO_sel (fun _ => ?_) (fun _ => ?_))
      | with_reducible refine pcO_any (fun _ => ?_)
theorem JB_due_b304 {B : Int} {m : Mu} {v2 : Int} {v3 : Int} {v4 : Int} {v7 : Int} {v9 : Int} {v11 : Int} {s0 : Int} (h : JB B m) : pcO (m5_due_b304 v2 v3 v4 v7 v9 v11 s0 m) (fun r : Int × Mu => JB B r.2) := by
    unfold m5_due_b304
    repeat' first
      | with_reducible exact pcO_none
      | with_reducible exact pcO_some (by assumption)
      | with_reducible exact pcO_inl (by assumption)
      | with_reducible exact pcO_inr (by assumption)
      | with_reducible exact pcO_irl (by assumption)
      | with_reducible exact pcO_irr (by assumption)
      | with_reducible exact JB_due_b341 (by assumption)
      | with_reducible refine pcO_ite (fun _ => ?_) (fun _ => ?_)
      | with_reducible refine pcO_bind (JB_due_b341 (by assumption)) (fun _ _ => ?_)
      | with_reducible exact JB_mast (by assumption)
      | with_reducible refine pcO_bind (JB_mast (by assumption)) (fun _ _ => ?_)
      | with_reducible refine pcO_bind (pcO_some (JB_ms (by assumption) (by decide))) (fun _ _ => ?_)
      | with_reducible refine pcO_bind (pcO_some (JB_0 (by assumption))) (fun _ _ => ?_)
      | with_reducible refine pcO_any (pcO_sel (fun _ => ?_) (fun _ => ?_))
      | with_reducible refine pcO_any (fun _ => ?_)
theorem JB_due_b264 {B : Int} {m : Mu} {v2 : Int} {v3 : Int} {v4 : Int} {v7 : Int} {v9 : Int} {v11 : Int} {s0 : Int} {s1 : Int} (h : JB B m) : pcO (m5_due_b264 v2 v3 v4 v7 v9 v11 s0 s1 m) (fun r : Int × Mu => JB B r.2) := by
    unfold m5_due_b264
    repeat' first
      | with_reducible exact pcO_none
      | with_reducible exact pcO_some (by assumption)
      | with_reducible exact pcO_inl (by assumption)
      | with_reducible exact pcO_inr (by assumption)
      | with_reducible exact pcO_irl (by assumption)
      | with_reducible exact pcO_irr (by assumption)
      | with_reducible exact JB_due_b304 (by assumption)
      | with_reducible refine pcO_ite (fun _ => ?_) (fun _ => ?_)
      | with_reducible refine pcO_bind (JB_due_b304 (by assumption)) (fun _ _ => ?_)
      | with_reducible exact JB_mast (by assumption)
      | with_reducible refine pcO_bind (JB_mast (by assumption)) (fun _ _ => ?_)
      | with_reducible refine pcO_bind (pcO_some (JB_ms (by assumption) (by decide))) (fun _ _ => ?_)
      | with_reducible refine pcO_bind (pcO_some (JB_0 (by assumption))) (fun _ _ => ?_)
      | with_reducible refine pcO_any (pcO_sel (fun _ => ?_) (fun _ => ?_))
      | with_reducible refine pcO_any (fun _ => ?_)
theorem JB_due_b233 {B : Int} {m : Mu} {v2 : Int} {v3 : Int} {v4 : Int} {v7 : Int} {v9 : Int} {v11 : Int} {s0 : Int} (h : JB B m) : pcO (m5_due_b233 v2 v3 v4 v7 v9 v11 s0 m) (fun r : Int × Mu => JB B r.2) := by
    unfold m5_due_b233
    repeat' first
      | with_reducible exact pcO_none
      | with_reducible exact pcO_some (by assumption)
      | with_reducible exact pcO_inl (by assumption)
      | with_reducible exact pcO_inr (by assumption)
      | with_reducible exact pcO_irl (by assumption)
      | with_reducible exact pcO_irr (by assumption)
      | with_reducible exact JB_due_b264 (by assumption)
      | with_reducible refine pcO_ite (fun _ => ?_) (fun _ => ?_)
      | with_reducible refine pcO_bind (JB_due_b264 (by assumption)) (fun _ _ => ?_)
      | with_reducible exact JB_mast (by assumption)
      | with_reducible refine pcO_bind (JB_mast (by assumption)) (fun _ _ => ?_)
      | with_reducible refine pcO_bind (pcO_some (JB_ms (by assumption) (by decide))) (fun _ _ => ?_)
      | with_reducible refine pcO_bind (pcO_some (JB_0 (by assumption))) (fun _ _ => ?_)
      | with_reducible refine pcO_any (pcO_sel (fun _ => ?_) (fun _ => ?_))
      | with_reducible refine pcO_any (fun _ => ?_)
theorem JB_due_b216 {B : Int} {m : Mu} {v2 : Int} {v3 : Int} {v4 : Int} {v7 : Int} {v9 : Int} {v11 : Int} {s0 : Int} {s1 : Int} (h : JB B m) : pcO (m5_due_b216 v2 v3 v4 v7 v9 v11 s0 s1 m) (fun r : Int × Mu => JB B r.2) := by
    unfold m5_due_b216
    repeat' first
      | with_reducible exact pcO_none
      | with_reducible exact pcO_some (by assumption)
      | with_reducible exact pcO_inl (by assumption)
      | with_reducible exact pcO_inr (by assumption)
      | with_reducible exact pcO_irl (by assumption)
      | with_reducible exact pcO_irr (by assumption)
      | with_reducible exact JB_due_b233 (by assumption)
      | with_reducible refine pcO_ite (fun _ => ?_) (fun _ => ?_)
      | with_reducible refine pcO_bind (JB_due_b233 (by assumption)) (fun _ _ => ?_)
      | with_reducible exact JB_mast (by assumption)
      | with_reducible refine pcO_bind (JB_mast (by assumption)) (fun _ _ => ?_)
      | with_reducible refine pcO_bind (pcO_some (JB_ms (by assumption) (by decide))) (fun _ _ => ?_)
      | with_reducible refine pcO_bind (pcO_some (JB_0 (by assumption))) (fun _ _ => ?_)
      | with_reducible refine pcO_any (pcO_sel (fun _ => ?_) (fun _ => ?_))
      | with_reducible refine pcO_any (fun _ => ?_)
theorem JB_due {B : Int} {m : Mu} {v1 : Int} {v2 : Int} (h : JB B m) : pcO (m5_due v1 v2 m) (fun r : Int × Mu => JB B r.2) := by
    unfold m5_due
    repeat' first
      | with_reducible exact pcO_none
      | with_reducible exact pcO_some (by assumption)
      | with_reducible exact pcO_inl (by assumption)
      | with_reducible exact pcO_inr (by assumption)
      | with_reducible exact pcO_irl (by assumption)
      | with_reducible exact pcO_irr (by assumption)
      | with_reducible exact JB_takeDigits (by assumption)
      | with_reducible exact JB_settled (by assumption)
      | with_reducible exact JB_due_b216 (by assumption)
      | with_reducible refine pcO_ite (fun _ => ?_) (fun _ => ?_)
      | with_reducible refine pcO_bind (JB_takeDigits (by assumption)) (fun _ _ => ?_)
      | with_reducible refine pcO_bind (JB_settled (by assumption)) (fun _ _ => ?_)
      | with_reducible refine pcO_bind (JB_due_b216 (by assumption)) (fun _ _ => ?_)
      | with_reducible exact JB_mast (by assumption)
      | with_reducible refine pcO_bind (JB_mast (by assumption)) (fun _ _ => ?_)
      | with_reducible refine pcO_bind (pcO_some (JB_ms (by assumption) (by decide))) (fun _ _ => ?_)
      | with_reducible refine pcO_bind (pcO_some (JB_0 (by assumption))) (fun _ _ => ?_)
      | with_reducible refine pcO_any (pcO_sel (fun _ => ?_) (fun _ => ?_))
      | with_reducible refine pcO_any (fun _ => ?_)
theorem JB_payAll_l2 {B : Int} {v1 : Int} {v2 : Int} : ∀ (n : Nat) (x0 : Int) (m : Mu), JB B m → pcO (m5_payAll_l2 v1 v2 n x0 m) (JB B) := by
    intro n
    induction n with
    | zero => intro x0 m h; exact pcO_none
    | succ n ih =>
      intro x0 m h
      unfold m5_payAll_l2
      repeat' first
        | with_reducible exact pcO_none
        | with_reducible exact pcO_some (by assumption)
        | with_reducible exact pcO_inl (by assumption)
        | with_reducible exact pcO_inr (by assumption)
        | with_reducible exact pcO_irl (by assumption)
        | with_reducible exact pcO_irr (by assumption)
        | with_reducible exact ih _ _ (by assumption)
        | with_reducible refine pcO_ite (fun _ => ?_) (fun _ => ?_)
        | with_reducible exact JB_mast (by assumption)
        | with_reducible refine pcO_bind (JB_mast (by assumption)) (fun _ _ => ?_)
        | with_reducible refine pcO_bind (pcO_some (JB_ms (by assumption) (by decide))) (fun _ _ => ?_)
        | with_reducible refine pcO_bind (pcO_some (JB_0 (by assumption))) (fun _ _ => ?_)
        | with_reducible refine pcO_any (pcO_sel (fun _ => ?_) (fun _ => ?_))
        | with_reducible refine pcO_any (fun _ => ?_)
theorem JB_payAll_l2' {B : Int} {n : Nat} {v1 : Int} {v2 : Int} {x0 : Int} {m : Mu} (h : JB B m) : pcO (m5_payAll_l2 v1 v2 n x0 m) (JB B) := JB_payAll_l2 n x0 m h
theorem JB_payAll_b135 {B : Int} {m : Mu} {v1 : Int} {v2 : Int} {v4 : Int} {s0 : Int} {kh : Int → Mu → Option (Mu)} (hk : ∀ (y0 : Int) (q : Mu), JB B q → pcO (kh y0 q) (JB B)) (h : JB B m) : pcO (m5_payAll_b135 kh v1 v2 v4 s0 m) (JB B) := by
    unfold m5_payAll_b135
    repeat' first
      | with_reducible exact pcO_none
      | with_reducible exact pcO_some (by assumption)
      | with_reducible exact pcO_inl (by assumption)
      | with_reducible exact pcO_inr (by assumption)
      | with_reducible exact pcO_irl (by assumption)
      | with_reducible exact pcO_irr (by assumption)
      | with_reducible exact hk _ _ (by assumption)
      | with_reducible exact JB_due (by assumption)
      | with_reducible refine pcO_ite (fun _ => ?_) (fun _ => ?_)
      | with_reducible refine pcO_bind (JB_due (by assumption)) (fun _ _ => ?_)
      | with_reducible exact JB_mast (by assumption)
      | with_reducible refine pcO_bind (JB_mast (by assumption)) (fun _ _ => ?_)
      | with_reducible refine pcO_bind (pcO_some (JB_ms (by assumption) (by decide))) (fun _ _ => ?_)
      | with_reducible refine pcO_bind (pcO_some (JB_0 (by assumption))) (fun _ _ => ?_)
      | with_reducible refine pcO_any (pcO_sel (fun _ => ?_) (fun _ => ?_))
      | with_reducible refine pcO_any (fun _ => ?_)
theorem JB_payAll_l42 {B : Int} {v1 : Int} {v2 : Int} : ∀ (n : Nat) (x0 : Int) (m : Mu), JB B m → pcO (m5_payAll_l42 v1 v2 n x0 m) (JB B) := by
    intro n
    induction n with
    | zero => intro x0 m h; exact pcO_none
    | succ n ih =>
      intro x0 m h
      unfold m5_payAll_l42
      repeat' first
        | with_reducible exact pcO_none
        | with_reducible exact pcO_some (by assumption)
        | with_reducible exact pcO_inl (by assumption)
        | with_reducible exact pcO_inr (by assumption)
        | with_reducible exact pcO_irl (by assumption)
        | with_reducible exact pcO_irr (by assumption)
        | with_reducible exact ih _ _ (by assumption)
        | with_reducible exact JB_payAll_b135 ih (by assumption)
        | with_reducible refine pcO_ite (fun _ => ?_) (fun _ => ?_)
        | with_reducible exact JB_mast (by assumption)
        | with_reducible refine pcO_bind (JB_mast (by assumption)) (fun _ _ => ?_)
        | with_reducible refine pcO_bind (pcO_some (JB_ms (by assumption) (by decide))) (fun _ _ => ?_)
        | with_reducible refine pcO_bind (pcO_some (JB_0 (by assumption))) (fun _ _ => ?_)
        | with_reducible refine pcO_any (pcO_sel (fun _ => ?_) (fun _ => ?_))
        | with_reducible refine pcO_any (fun _ => ?_)
theorem JB_payAll_l42' {B : Int} {n : Nat} {v1 : Int} {v2 : Int} {x0 : Int} {m : Mu} (h : JB B m) : pcO (m5_payAll_l42 v1 v2 n x0 m) (JB B) := JB_payAll_l42 n x0 m h
theorem JB_payAll {B : Int} {m : Mu} {v1 : Int} {v2 : Int} (h : JB B m) : pcO (m5_payAll v1 v2 m) (JB B) := by
    unfold m5_payAll
    repeat' first
      | with_reducible exact pcO_none
      | with_reducible exact pcO_some (by assumption)
      | with_reducible exact pcO_inl (by assumption)
      | with_reducible exact pcO_inr (by assumption)
      | with_reducible exact pcO_irl (by assumption)
      | with_reducible exact pcO_irr (by assumption)
      | with_reducible exact JB_payAll_l2' (by assumption)
      | with_reducible exact JB_payAll_l42' (by assumption)
      | with_reducible refine pcO_ite (fun _ => ?_) (fun _ => ?_)
      | with_reducible refine pcO_bind (JB_payAll_l2' (by assumption)) (fun _ _ => ?_)
      | with_reducible refine pcO_bind (JB_payAll_l42' (by assumption)) (fun _ _ => ?_)
      | with_reducible exact JB_mast (by assumption)
      | with_reducible refine pcO_bind (JB_mast (by assumption)) (fun _ _ => ?_)
      | with_reducible refine pcO_bind (pcO_some (JB_ms (by assumption) (by decide))) (fun _ _ => ?_)
      | with_reducible refine pcO_bind (pcO_some (JB_0 (by assumption))) (fun _ _ => ?_)
      | with_reducible refine pcO_any (pcO_sel (fun _ => ?_) (fun _ => ?_))
      | with_reducible refine pcO_any (fun _ => ?_)
theorem JB_pay {B : Int} {m : Mu} {v1 : Int} {v2 : Int} (h : JB B m) : pcO (m5_pay v1 v2 m) (fun r : Int × Mu => JB B r.2) := by
    unfold m5_pay
    repeat' first
      | with_reducible exact pcO_none
      | with_reducible exact pcO_some (by assumption)
      | with_reducible exact pcO_inl (by assumption)
      | with_reducible exact pcO_inr (by assumption)
      | with_reducible exact pcO_irl (by assumption)
      | with_reducible exact pcO_irr (by assumption)
      | with_reducible exact JB_payAll (by assumption)
      | with_reducible refine pcO_ite (fun _ => ?_) (fun _ => ?_)
      | with_reducible refine pcO_bind (JB_payAll (by assumption)) (fun _ _ => ?_)
      | with_reducible exact JB_mast (by assumption)
      | with_reducible refine pcO_bind (JB_mast (by assumption)) (fun _ _ => ?_)
      | with_reducible refine pcO_bind (pcO_some (JB_ms (by assumption) (by decide))) (fun _ _ => ?_)
      | with_reducible refine pcO_bind (pcO_some (JB_0 (by assumption))) (fun _ _ => ?_)
      | with_reducible refine pcO_any (pcO_sel (fun _ => ?_) (fun _ => ?_))
      | with_reducible refine pcO_any (fun _ => ?_)
theorem JB_used {B : Int} {m : Mu} {v1 : Int} {v2 : Int} {v3 : Int} (h : JB B m) : pcO (m5_used v1 v2 v3 m) (fun r : Int × Mu => JB B r.2) := by
    unfold m5_used
    repeat' first
      | with_reducible exact pcO_none
      | with_reducible exact pcO_some (by assumption)
      | with_reducible exact pcO_inl (by assumption)
      | with_reducible exact pcO_inr (by assumption)
      | with_reducible exact pcO_irl (by assumption)
      | with_reducible exact pcO_irr (by assumption)
      | with_reducible exact JB_payAll (by assumption)
      | with_reducible refine pcO_ite (fun _ => ?_) (fun _ => ?_)
      | with_reducible refine pcO_bind (JB_payAll (by assumption)) (fun _ _ => ?_)
      | with_reducible exact JB_mast (by assumption)
      | with_reducible refine pcO_bind (JB_mast (by assumption)) (fun _ _ => ?_)
      | with_reducible refine pcO_bind (pcO_some (JB_ms (by assumption) (by decide))) (fun _ _ => ?_)
      | with_reducible refine pcO_bind (pcO_some (JB_0 (by assumption))) (fun _ _ => ?_)
      | with_reducible refine pcO_any (pcO_sel (fun _ => ?_) (fun _ => ?_))
      | with_reducible refine pcO_any (fun _ => ?_)
theorem JB_treaty_b49 {B : Int} {m : Mu} {v1 : Int} {v2 : Int} {v3 : Int} (h : JB B m) : pcO (m5_treaty_b49 v1 v2 v3 m) (fun r : Int × Mu => JB B r.2) := by
    unfold m5_treaty_b49
    repeat' first
      | with_reducible exact pcO_none
      | with_reducible exact pcO_some (by assumption)
      | with_reducible exact pcO_inl (by assumption)
      | with_reducible exact pcO_inr (by assumption)
      | with_reducible exact pcO_irl (by assumption)
      | with_reducible exact pcO_irr (by assumption)
      | with_reducible refine pcO_ite (fun _ => ?_) (fun _ => ?_)
      | with_reducible exact JB_mast (by assumption)
      | with_reducible refine pcO_bind (JB_mast (by assumption)) (fun _ _ => ?_)
      | with_reducible refine pcO_bind (pcO_some (JB_ms (by assumption) (by decide))) (fun _ _ => ?_)
      | with_reducible refine pcO_bind (pcO_some (JB_0 (by assumption))) (fun _ _ => ?_)
      | with_reducible refine pcO_any (pcO_sel (fun _ => ?_) (fun _ => ?_))
      | with_reducible refine pcO_any (fun _ => ?_)
theorem JB_treaty_b27 {B : Int} {m : Mu} {v1 : Int} {v2 : Int} {v3 : Int} {s0 : Int} {s1 : Int} (h : JB B m) : pcO (m5_treaty_b27 v1 v2 v3 s0 s1 m) (fun r : Int × Mu => JB B r.2) := by
    unfold m5_treaty_b27
    repeat' first
      | with_reducible exact pcO_none
      | with_reducible exact pcO_some (by assumption)
      | with_reducible exact pcO_inl (by assumption)
      | with_reducible exact pcO_inr (by assumption)
      | with_reducible exact pcO_irl (by assumption)
      | with_reducible exact pcO_irr (by assumption)
      | with_reducible exact JB_treaty_b49 (by assumption)
      | with_reducible refine pcO_ite (fun _ => ?_) (fun _ => ?_)
      | with_reducible refine pcO_bind (JB_treaty_b49 (by assumption)) (fun _ _ => ?_)
      | with_reducible exact JB_mast (by assumption)
      | with_reducible refine pcO_bind (JB_mast (by assumption)) (fun _ _ => ?_)
      | with_reducible refine pcO_bind (pcO_some (JB_ms (by assumption) (by decide))) (fun _ _ => ?_)
      | with_reducible refine pcO_bind (pcO_some (JB_0 (by assumption))) (fun _ _ => ?_)
      | with_reducible refine pcO_any (pcO_sel (fun _ => ?_) (fun _ => ?_))
      | with_reducible refine pcO_any (fun _ => ?_)
theorem JB_treaty {B : Int} {m : Mu} {v1 : Int} {v2 : Int} {v3 : Int} (h : JB B m) : pcO (m5_treaty v1 v2 v3 m) (fun r : Int × Mu => JB B r.2) := by
    unfold m5_treaty
    repeat' first
      | with_reducible exact pcO_none
      | with_reducible exact pcO_some (by assumption)
      | with_reducible exact pcO_inl (by assumption)
      | with_reducible exact pcO_inr (by assumption)
      | with_reducible exact pcO_irl (by assumption)
      | with_reducible exact pcO_irr (by assumption)
      | with_reducible exact JB_treaty_b27 (by assumption)
      | with_reducible refine pcO_ite (fun _ => ?_) (fun _ => ?_)
      | with_reducible refine pcO_bind (JB_treaty_b27 (by assumption)) (fun _ _ => ?_)
      | with_reducible exact JB_mast (by assumption)
      | with_reducible refine pcO_bind (JB_mast (by assumption)) (fun _ _ => ?_)
      | with_reducible refine pcO_bind (pcO_some (JB_ms (by assumption) (by decide))) (fun _ _ => ?_)
      | with_reducible refine pcO_bind (pcO_some (JB_0 (by assumption))) (fun _ _ => ?_)
      | with_reducible refine pcO_any (pcO_sel (fun _ => ?_) (fun _ => ?_))
      | with_reducible refine pcO_any (fun _ => ?_)
theorem JB_ceded {B : Int} {m : Mu} {v1 : Int} {v2 : Int} {v3 : Int} (h : JB B m) : pcO (m5_ceded v1 v2 v3 m) (fun r : Int × Mu => JB B r.2) := by
    unfold m5_ceded
    repeat' first
      | with_reducible exact pcO_none
      | with_reducible exact pcO_some (by assumption)
      | with_reducible exact pcO_inl (by assumption)
      | with_reducible exact pcO_inr (by assumption)
      | with_reducible exact pcO_irl (by assumption)
      | with_reducible exact pcO_irr (by assumption)
      | with_reducible exact JB_pay (by assumption)
      | with_reducible refine pcO_ite (fun _ => ?_) (fun _ => ?_)
      | with_reducible refine pcO_bind (JB_pay (by assumption)) (fun _ _ => ?_)
      | with_reducible exact JB_mast (by assumption)
      | with_reducible refine pcO_bind (JB_mast (by assumption)) (fun _ _ => ?_)
      | with_reducible refine pcO_bind (pcO_some (JB_ms (by assumption) (by decide))) (fun _ _ => ?_)
      | with_reducible refine pcO_bind (pcO_some (JB_0 (by assumption))) (fun _ _ => ?_)
      | with_reducible refine pcO_any (pcO_sel (fun _ => ?_) (fun _ => ?_))
      | with_reducible refine pcO_any (fun _ => ?_)
theorem JB_book {B : Int} {m : Mu} {v1 : Int} {v2 : Int} {v3 : Int} {v5 : Int} (h : JB B m) : pcO (m5_book v1 v2 v3 v5 m) (JB B) := by
    unfold m5_book
    repeat' first
      | with_reducible exact pcO_none
      | with_reducible exact pcO_some (by assumption)
      | with_reducible exact pcO_inl (by assumption)
      | with_reducible exact pcO_inr (by assumption)
      | with_reducible exact pcO_irl (by assumption)
      | with_reducible exact pcO_irr (by assumption)
      | with_reducible refine pcO_ite (fun _ => ?_) (fun _ => ?_)
      | with_reducible exact JB_mast (by assumption)
      | with_reducible refine pcO_bind (JB_mast (by assumption)) (fun _ _ => ?_)
      | with_reducible refine pcO_bind (pcO_some (JB_ms (by assumption) (by decide))) (fun _ _ => ?_)
      | with_reducible refine pcO_bind (pcO_some (JB_0 (by assumption))) (fun _ _ => ?_)
      | with_reducible refine pcO_any (pcO_sel (fun _ => ?_) (fun _ => ?_))
      | with_reducible refine pcO_any (fun _ => ?_)
theorem JB_close_b85 {B : Int} {m : Mu} {v1 : Int} {v3 : Int} {s0 : Int} {s1 : Int} {kh : Int → Int → Mu → Option (Int × Mu)} (hk : ∀ (y0 : Int) (y1 : Int) (q : Mu), JB B q → pcO (kh y0 y1 q) (fun r : Int × Mu => JB B r.2)) (h : JB B m) : pcO (m5_close_b85 kh v1 v3 s0 s1 m) (fun r : Int × Mu => JB B r.2) := by
    unfold m5_close_b85
    repeat' first
      | with_reducible exact pcO_none
      | with_reducible exact pcO_some (by assumption)
      | with_reducible exact pcO_inl (by assumption)
      | with_reducible exact pcO_inr (by assumption)
      | with_reducible exact pcO_irl (by assumption)
      | with_reducible exact pcO_irr (by assumption)
      | with_reducible exact hk _ _ _ (by assumption)
      | with_reducible refine pcO_ite (fun _ => ?_) (fun _ => ?_)
      | with_reducible exact JB_mast (by assumption)
      | with_reducible refine pcO_bind (JB_mast (by assumption)) (fun _ _ => ?_)
      | with_reducible refine pcO_bind (pcO_some (JB_ms (by assumption) (by decide))) (fun _ _ => ?_)
      | with_reducible refine pcO_bind (pcO_some (JB_0 (by assumption))) (fun _ _ => ?_)
      | with_reducible refine pcO_any (pcO_sel (fun _ => ?_) (fun _ => ?_))
      | with_reducible refine pcO_any (fun _ => ?_)
theorem JB_close_b57 {B : Int} {m : Mu} {v1 : Int} {v3 : Int} {v4 : Int} {s0 : Int} {s1 : Int} {kh : Int → Int → Mu → Option (Int × Mu)} (hk : ∀ (y0 : Int) (y1 : Int) (q : Mu), JB B q → pcO (kh y0 y1 q) (fun r : Int × Mu => JB B r.2)) (h : JB B m) : pcO (m5_close_b57 kh v1 v3 v4 s0 s1 m) (fun r : Int × Mu => JB B r.2) := by
    unfold m5_close_b57
    repeat' first
      | with_reducible exact pcO_none
      | with_reducible exact pcO_some (by assumption)
      | with_reducible exact pcO_inl (by assumption)
      | with_reducible exact pcO_inr (by assumption)
      | with_reducible exact pcO_irl (by assumption)
      | with_reducible exact pcO_irr (by assumption)
      | with_reducible exact hk _ _ _ (by assumption)
      | with_reducible exact JB_close_b85 hk (by assumption)
      | with_reducible refine pcO_ite (fun _ => ?_) (fun _ => ?_)
      | with_reducible exact JB_mast (by assumption)
      | with_reducible refine pcO_bind (JB_mast (by assumption)) (fun _ _ => ?_)
      | with_reducible refine pcO_bind (pcO_some (JB_ms (by assumption) (by decide))) (fun _ _ => ?_)
      | with_reducible refine pcO_bind (pcO_some (JB_0 (by assumption))) (fun _ _ => ?_)
      | with_reducible refine pcO_any (pcO_sel (fun _ => ?_) (fun _ => ?_))
      | with_reducible refine pcO_any (fun _ => ?_)
theorem JB_close_l22 {B : Int} {v1 : Int} : ∀ (n : Nat) (x0 : Int) (x1 : Int) (m : Mu), JB B m → pcO (m5_close_l22 v1 n x0 x1 m) (fun r : Int × Mu => JB B r.2) := by
    intro n
    induction n with
    | zero => intro x0 x1 m h; exact pcO_none
    | succ n ih =>
      intro x0 x1 m h
      unfold m5_close_l22
      repeat' first
        | with_reducible exact pcO_none
        | with_reducible exact pcO_some (by assumption)
        | with_reducible exact pcO_inl (by assumption)
        | with_reducible exact pcO_inr (by assumption)
        | with_reducible exact pcO_irl (by assumption)
        | with_reducible exact pcO_irr (by assumption)
        | with_reducible exact ih _ _ _ (by assumption)
        | with_reducible exact JB_pay (by assumption)
        | with_reducible exact JB_close_b57 ih (by assumption)
        | with_reducible refine pcO_ite (fun _ => ?_) (fun _ => ?_)
        | with_reducible refine pcO_bind (JB_pay (by assumption)) (fun _ _ => ?_)
        | with_reducible exact JB_mast (by assumption)
        | with_reducible refine pcO_bind (JB_mast (by assumption)) (fun _ _ => ?_)
        | with_reducible refine pcO_bind (pcO_some (JB_ms (by assumption) (by decide))) (fun _ _ => ?_)
        | with_reducible refine pcO_bind (pcO_some (JB_0 (by assumption))) (fun _ _ => ?_)
        | with_reducible refine pcO_any (pcO_sel (fun _ => ?_) (fun _ => ?_))
        | with_reducible refine pcO_any (fun _ => ?_)
theorem JB_close_l22' {B : Int} {n : Nat} {v1 : Int} {x0 : Int} {x1 : Int} {m : Mu} (h : JB B m) : pcO (m5_close_l22 v1 n x0 x1 m) (fun r : Int × Mu => JB B r.2) := JB_close_l22 n x0 x1 m h
theorem JB_close_b196 {B : Int} {m : Mu} {v1 : Int} {v2 : Int} {v3 : Int} {v6 : Int} {kh : Int → Mu → Option (Mu)} (hk : ∀ (y0 : Int) (q : Mu), JB B q → pcO (kh y0 q) (JB B)) (h : JB B m) : pcO (m5_close_b196 kh v1 v2 v3 v6 m) (JB B) := by
    unfold m5_close_b196
    repeat' first
      | with_reducible exact pcO_none
      | with_reducible exact pcO_some (by assumption)
      | with_reducible exact pcO_inl (by assumption)
      | with_reducible exact pcO_inr (by assumption)
      | with_reducible exact pcO_irl (by assumption)
      | with_reducible exact pcO_irr (by assumption)
      | with_reducible exact hk _ _ (by assumption)
      | with_reducible exact JB_book (by assumption)
      | with_reducible refine pcO_ite (fun _ => ?_) (fun _ => ?_)
      | with_reducible refine pcO_bind (JB_book (by assumption)) (fun _ _ => ?_)
      | with_reducible exact JB_mast (by assumption)
      | with_reducible refine pcO_bind (JB_mast (by assumption)) (fun _ _ => ?_)
      | with_reducible refine pcO_bind (pcO_some (JB_ms (by assumption) (by decide))) (fun _ _ => ?_)
      | with_reducible refine pcO_bind (pcO_some (JB_0 (by assumption))) (fun _ _ => ?_)
      | with_reducible refine pcO_any (pcO_sel (fun _ => ?_) (fun _ => ?_))
      | with_reducible refine pcO_any (fun _ => ?_)
theorem JB_close_l115 {B : Int} {v1 : Int} {v2 : Int} : ∀ (n : Nat) (x0 : Int) (m : Mu), JB B m → pcO (m5_close_l115 v1 v2 n x0 m) (JB B) := by
    intro n
    induction n with
    | zero => intro x0 m h; exact pcO_none
    | succ n ih =>
      intro x0 m h
      unfold m5_close_l115
      repeat' first
        | with_reducible exact pcO_none
        | with_reducible exact pcO_some (by assumption)
        | with_reducible exact pcO_inl (by assumption)
        | with_reducible exact pcO_inr (by assumption)
        | with_reducible exact pcO_irl (by assumption)
        | with_reducible exact pcO_irr (by assumption)
        | with_reducible exact ih _ _ (by assumption)
        | with_reducible exact JB_pay (by assumption)
        | with_reducible exact JB_close_b196 ih (by assumption)
        | with_reducible exact JB_book (by assumption)
        | with_reducible refine pcO_ite (fun _ => ?_) (fun _ => ?_)
        | with_reducible refine pcO_bind (JB_pay (by assumption)) (fun _ _ => ?_)
        | with_reducible refine pcO_bind (JB_book (by assumption)) (fun _ _ => ?_)
        | with_reducible exact JB_mast (by assumption)
        | with_reducible refine pcO_bind (JB_mast (by assumption)) (fun _ _ => ?_)
        | with_reducible refine pcO_bind (pcO_some (JB_ms (by assumption) (by decide))) (fun _ _ => ?_)
        | with_reducible refine pcO_bind (pcO_some (JB_0 (by assumption))) (fun _ _ => ?_)
        | with_reducible refine pcO_any (pcO_sel (fun _ => ?_) (fun _ => ?_))
        | with_reducible refine pcO_any (fun _ => ?_)
theorem JB_close_l115' {B : Int} {n : Nat} {v1 : Int} {v2 : Int} {x0 : Int} {m : Mu} (h : JB B m) : pcO (m5_close_l115 v1 v2 n x0 m) (JB B) := JB_close_l115 n x0 m h
theorem JB_close {B : Int} {m : Mu} {v1 : Int} (h : JB B m) : pcO (m5_close v1 m) (fun r : Int × Mu => JB B r.2) := by
    unfold m5_close
    repeat' first
      | with_reducible exact pcO_none
      | with_reducible exact pcO_some (by assumption)
      | with_reducible exact pcO_inl (by assumption)
      | with_reducible exact pcO_inr (by assumption)
      | with_reducible exact pcO_irl (by assumption)
      | with_reducible exact pcO_irr (by assumption)
      | with_reducible exact JB_close_l22' (by assumption)
      | with_reducible exact JB_close_l115' (by assumption)
      | with_reducible refine pcO_ite (fun _ => ?_) (fun _ => ?_)
      | with_reducible refine pcO_bind (JB_close_l22' (by assumption)) (fun _ _ => ?_)
      | with_reducible refine pcO_bind (JB_close_l115' (by assumption)) (fun _ _ => ?_)
      | with_reducible exact JB_mast (by assumption)
      | with_reducible refine pcO_bind (JB_mast (by assumption)) (fun _ _ => ?_)
      | with_reducible refine pcO_bind (pcO_some (JB_ms (by assumption) (by decide))) (fun _ _ => ?_)
      | with_reducible refine pcO_bind (pcO_some (JB_0 (by assumption))) (fun _ _ => ?_)
      | with_reducible refine pcO_any (pcO_sel (fun _ => ?_) (fun _ => ?_))
      | with_reducible refine pcO_any (fun _ => ?_)
theorem JB_paidAt_l18 {B : Int} {v1 : Int} {v5 : Int} : ∀ (n : Nat) (x0 : Int) (x1 : Int) (m : Mu), JB B m → pcO (m5_paidAt_l18 v1 v5 n x0 x1 m) (fun r : Int × Mu => JB B r.2) := by
    intro n
    induction n with
    | zero => intro x0 x1 m h; exact pcO_none
    | succ n ih =>
      intro x0 x1 m h
      unfold m5_paidAt_l18
      repeat' first
        | with_reducible exact pcO_none
        | with_reducible exact pcO_some (by assumption)
        | with_reducible exact pcO_inl (by assumption)
        | with_reducible exact pcO_inr (by assumption)
        | with_reducible exact pcO_irl (by assumption)
        | with_reducible exact pcO_irr (by assumption)
        | with_reducible exact ih _ _ _ (by assumption)
        | with_reducible exact JB_used (by assumption)
        | with_reducible refine pcO_ite (fun _ => ?_) (fun _ => ?_)
        | with_reducible refine pcO_bind (JB_used (by assumption)) (fun _ _ => ?_)
        | with_reducible exact JB_mast (by assumption)
        | with_reducible refine pcO_bind (JB_mast (by assumption)) (fun _ _ => ?_)
        | with_reducible refine pcO_bind (pcO_some (JB_ms (by assumption) (by decide))) (fun _ _ => ?_)
        | with_reducible refine pcO_bind (pcO_some (JB_0 (by assumption))) (fun _ _ => ?_)
        | with_reducible refine pcO_any (pcO_sel (fun _ => ?_) (fun _ => ?_))
        | with_reducible refine pcO_any (fun _ => ?_)
theorem JB_paidAt_l18' {B : Int} {n : Nat} {v1 : Int} {v5 : Int} {x0 : Int} {x1 : Int} {m : Mu} (h : JB B m) : pcO (m5_paidAt_l18 v1 v5 n x0 x1 m) (fun r : Int × Mu => JB B r.2) := JB_paidAt_l18 n x0 x1 m h
theorem JB_paidAt {B : Int} {m : Mu} {v1 : Int} {v2 : Int} (h : JB B m) : pcO (m5_paidAt v1 v2 m) (fun r : Int × Mu => JB B r.2) := by
    unfold m5_paidAt
    repeat' first
      | with_reducible exact pcO_none
      | with_reducible exact pcO_some (by assumption)
      | with_reducible exact pcO_inl (by assumption)
      | with_reducible exact pcO_inr (by assumption)
      | with_reducible exact pcO_irl (by assumption)
      | with_reducible exact pcO_irr (by assumption)
      | with_reducible exact JB_paidAt_l18' (by assumption)
      | with_reducible refine pcO_ite (fun _ => ?_) (fun _ => ?_)
      | with_reducible refine pcO_bind (JB_paidAt_l18' (by assumption)) (fun _ _ => ?_)
      | with_reducible exact JB_mast (by assumption)
      | with_reducible refine pcO_bind (JB_mast (by assumption)) (fun _ _ => ?_)
      | with_reducible refine pcO_bind (pcO_some (JB_ms (by assumption) (by decide))) (fun _ _ => ?_)
      | with_reducible refine pcO_bind (pcO_some (JB_0 (by assumption))) (fun _ _ => ?_)
      | with_reducible refine pcO_any (pcO_sel (fun _ => ?_) (fun _ => ?_))
      | with_reducible refine pcO_any (fun _ => ?_)
theorem JB_paid {B : Int} {m : Mu} {v1 : Int} {v2 : Int} (h : JB B m) : pcO (m5_paid v1 v2 m) (fun r : Int × Mu => JB B r.2) := by
    unfold m5_paid
    repeat' first
      | with_reducible exact pcO_none
      | with_reducible exact pcO_some (by assumption)
      | with_reducible exact pcO_inl (by assumption)
      | with_reducible exact pcO_inr (by assumption)
      | with_reducible exact pcO_irl (by assumption)
      | with_reducible exact pcO_irr (by assumption)
      | with_reducible exact JB_paidAt (by assumption)
      | with_reducible refine pcO_ite (fun _ => ?_) (fun _ => ?_)
      | with_reducible refine pcO_bind (JB_paidAt (by assumption)) (fun _ _ => ?_)
      | with_reducible exact JB_mast (by assumption)
      | with_reducible refine pcO_bind (JB_mast (by assumption)) (fun _ _ => ?_)
      | with_reducible refine pcO_bind (pcO_some (JB_ms (by assumption) (by decide))) (fun _ _ => ?_)
      | with_reducible refine pcO_bind (pcO_some (JB_0 (by assumption))) (fun _ _ => ?_)
      | with_reducible refine pcO_any (pcO_sel (fun _ => ?_) (fun _ => ?_))
      | with_reducible refine pcO_any (fun _ => ?_)
theorem JB_end_l52 {B : Int} {v2 : Int} {v3 : Int} {v5 : Int} : ∀ (n : Nat) (x0 : Int) (x1 : Int) (x2 : Int) (m : Mu), JB B m → pcO (m5_end_l52 v2 v3 v5 n x0 x1 x2 m) (fun r : Int × Int × Mu => JB B r.2.2) := by
    intro n
    induction n with
    | zero => intro x0 x1 x2 m h; exact pcO_none
    | succ n ih =>
      intro x0 x1 x2 m h
      unfold m5_end_l52
      repeat' first
        | with_reducible exact pcO_none
        | with_reducible exact pcO_some (by assumption)
        | with_reducible exact pcO_inl (by assumption)
        | with_reducible exact pcO_inr (by assumption)
        | with_reducible exact pcO_irl (by assumption)
        | with_reducible exact pcO_irr (by assumption)
        | with_reducible exact ih _ _ _ _ (by assumption)
        | with_reducible exact JB_paidAt (by assumption)
        | with_reducible refine pcO_ite (fun _ => ?_) (fun _ => ?_)
        | with_reducible refine pcO_bind (JB_paidAt (by assumption)) (fun _ _ => ?_)
        | with_reducible exact JB_mast (by assumption)
        | with_reducible refine pcO_bind (JB_mast (by assumption)) (fun _ _ => ?_)
        | with_reducible refine pcO_bind (pcO_some (JB_ms (by assumption) (by decide))) (fun _ _ => ?_)
        | with_reducible refine pcO_bind (pcO_some (JB_0 (by assumption))) (fun _ _ => ?_)
        | with_reducible refine pcO_any (pcO_sel (fun _ => ?_) (fun _ => ?_))
        | with_reducible refine pcO_any (fun _ => ?_)
theorem JB_end_l52' {B : Int} {n : Nat} {v2 : Int} {v3 : Int} {v5 : Int} {x0 : Int} {x1 : Int} {x2 : Int} {m : Mu} (h : JB B m) : pcO (m5_end_l52 v2 v3 v5 n x0 x1 x2 m) (fun r : Int × Int × Mu => JB B r.2.2) := JB_end_l52 n x0 x1 x2 m h
theorem JB_end_l37 {B : Int} {v2 : Int} : ∀ (n : Nat) (x0 : Int) (x1 : Int) (m : Mu), JB B m → pcO (m5_end_l37 v2 n x0 x1 m) (fun r : Int × Mu => JB B r.2) := by
    intro n
    induction n with
    | zero => intro x0 x1 m h; exact pcO_none
    | succ n ih =>
      intro x0 x1 m h
      unfold m5_end_l37
      repeat' first
        | with_reducible exact pcO_none
        | with_reducible exact pcO_some (by assumption)
        | with_reducible exact pcO_inl (by assumption)
        | with_reducible exact pcO_inr (by assumption)
        | with_reducible exact pcO_irl (by assumption)
        | with_reducible exact pcO_irr (by assumption)
        | with_reducible exact ih _ _ _ (by assumption)
        | with_reducible exact JB_end_l52' (by assumption)
        | with_reducible refine pcO_ite (fun _ => ?_) (fun _ => ?_)
        | with_reducible refine pcO_bind (JB_end_l52' (by assumption)) (fun _ _ => ?_)
        | with_reducible exact JB_mast (by assumption)
        | with_reducible refine pcO_bind (JB_mast (by assumption)) (fun _ _ => ?_)
        | with_reducible refine pcO_bind (pcO_some (JB_ms (by assumption) (by decide))) (fun _ _ => ?_)
        | with_reducible refine pcO_bind (pcO_some (JB_0 (by assumption))) (fun _ _ => ?_)
        | with_reducible refine pcO_any (pcO_sel (fun _ => ?_) (fun _ => ?_))
        | with_reducible refine pcO_any (fun _ => ?_)
theorem JB_end_l37' {B : Int} {n : Nat} {v2 : Int} {x0 : Int} {x1 : Int} {m : Mu} (h : JB B m) : pcO (m5_end_l37 v2 n x0 x1 m) (fun r : Int × Mu => JB B r.2) := JB_end_l37 n x0 x1 m h
theorem JB_end {B : Int} {m : Mu} {v1 : Int} {v2 : Int} (h : JB B m) : pcO (m5_end v1 v2 m) (fun r : Int × Mu => JB B r.2) := by
    unfold m5_end
    repeat' first
      | with_reducible exact pcO_none
      | with_reducible exact pcO_some (by assumption)
      | with_reducible exact pcO_inl (by assumption)
      | with_reducible exact pcO_inr (by assumption)
      | with_reducible exact pcO_irl (by assumption)
      | with_reducible exact pcO_irr (by assumption)
      | with_reducible exact JB_paidAt (by assumption)
      | with_reducible exact JB_end_l37' (by assumption)
      | with_reducible refine pcO_ite (fun _ => ?_) (fun _ => ?_)
      | with_reducible refine pcO_bind (JB_paidAt (by assumption)) (fun _ _ => ?_)
      | with_reducible refine pcO_bind (JB_end_l37' (by assumption)) (fun _ _ => ?_)
      | with_reducible exact JB_mast (by assumption)
      | with_reducible refine pcO_bind (JB_mast (by assumption)) (fun _ _ => ?_)
      | with_reducible refine pcO_bind (pcO_some (JB_ms (by assumption) (by decide))) (fun _ _ => ?_)
      | with_reducible refine pcO_bind (pcO_some (JB_0 (by assumption))) (fun _ _ => ?_)
      | with_reducible refine pcO_any (pcO_sel (fun _ => ?_) (fun _ => ?_))
      | with_reducible refine pcO_any (fun _ => ?_)
theorem JB_size {B : Int} {m : Mu} {v1 : Int} {v2 : Int} (h : JB B m) : pcO (m5_size v1 v2 m) (fun r : Int × Mu => JB B r.2) := by
    unfold m5_size
    repeat' first
      | with_reducible exact pcO_none
      | with_reducible exact pcO_some (by assumption)
      | with_reducible exact pcO_inl (by assumption)
      | with_reducible exact pcO_inr (by assumption)
      | with_reducible exact pcO_irl (by assumption)
      | with_reducible exact pcO_irr (by assumption)
      | with_reducible refine pcO_ite (fun _ => ?_) (fun _ => ?_)
      | with_reducible exact JB_mast (by assumption)
      | with_reducible refine pcO_bind (JB_mast (by assumption)) (fun _ _ => ?_)
      | with_reducible refine pcO_bind (pcO_some (JB_ms (by assumption) (by decide))) (fun _ _ => ?_)
      | with_reducible refine pcO_bind (pcO_some (JB_0 (by assumption))) (fun _ _ => ?_)
      | with_reducible refine pcO_any (pcO_sel (fun _ => ?_) (fun _ => ?_))
      | with_reducible refine pcO_any (fun _ => ?_)
theorem JB_count {B : Int} {m : Mu} {v1 : Int} {v2 : Int} (h : JB B m) : pcO (m5_count v1 v2 m) (fun r : Int × Mu => JB B r.2) := by
    unfold m5_count
    repeat' first
      | with_reducible exact pcO_none
      | with_reducible exact pcO_some (by assumption)
      | with_reducible exact pcO_inl (by assumption)
      | with_reducible exact pcO_inr (by assumption)
      | with_reducible exact pcO_irl (by assumption)
      | with_reducible exact pcO_irr (by assumption)
      | with_reducible refine pcO_ite (fun _ => ?_) (fun _ => ?_)
      | with_reducible exact JB_mast (by assumption)
      | with_reducible refine pcO_bind (JB_mast (by assumption)) (fun _ _ => ?_)
      | with_reducible refine pcO_bind (pcO_some (JB_ms (by assumption) (by decide))) (fun _ _ => ?_)
      | with_reducible refine pcO_bind (pcO_some (JB_0 (by assumption))) (fun _ _ => ?_)
      | with_reducible refine pcO_any (pcO_sel (fun _ => ?_) (fun _ => ?_))
      | with_reducible refine pcO_any (fun _ => ?_)
theorem JB_findMasses_b36 {B : Int} {m : Mu} {v1 : Int} {s1 : Int} {s2 : Int} {kh : Int → Mu → Option (Mu)} (hk : ∀ (y0 : Int) (q : Mu), JB B q → pcO (kh y0 q) (JB B)) (h : JB B m) : pcO (m5_findMasses_b36 kh v1 s1 s2 m) (JB B) := by
    unfold m5_findMasses_b36
    repeat' first
      | with_reducible exact pcO_none
      | with_reducible exact pcO_some (by assumption)
      | with_reducible exact pcO_inl (by assumption)
      | with_reducible exact pcO_inr (by assumption)
      | with_reducible exact pcO_irl (by assumption)
      | with_reducible exact pcO_irr (by assumption)
      | with_reducible exact hk _ _ (by assumption)
      | with_reducible refine pcO_ite (fun _ => ?_) (fun _ => ?_)
      | with_reducible exact JB_mast (by assumption)
      | with_reducible refine pcO_bind (JB_mast (by assumption)) (fun _ _ => ?_)
      | with_reducible refine pcO_bind (pcO_some (JB_ms (by assumption) (by decide))) (fun _ _ => ?_)
      | with_reducible refine pcO_bind (pcO_some (JB_0 (by assumption))) (fun _ _ => ?_)
      | with_reducible refine pcO_any (pcO_sel (fun _ => ?_) (fun _ => ?_))
      | with_reducible refine pcO_any (fun _ => ?_)
theorem JB_findMasses_l15 {B : Int} : ∀ (n : Nat) (x0 : Int) (m : Mu), JB B m → pcO (m5_findMasses_l15  n x0 m) (JB B) := by
    intro n
    induction n with
    | zero => intro x0 m h; exact pcO_none
    | succ n ih =>
      intro x0 m h
      unfold m5_findMasses_l15
      repeat' first
        | with_reducible exact pcO_none
        | with_reducible exact pcO_some (by assumption)
        | with_reducible exact pcO_inl (by assumption)
        | with_reducible exact pcO_inr (by assumption)
        | with_reducible exact pcO_irl (by assumption)
        | with_reducible exact pcO_irr (by assumption)
        | with_reducible exact ih _ _ (by assumption)
        | with_reducible exact JB_findMasses_b36 ih (by assumption)
        | with_reducible refine pcO_ite (fun _ => ?_) (fun _ => ?_)
        | with_reducible exact JB_mast (by assumption)
        | with_reducible refine pcO_bind (JB_mast (by assumption)) (fun _ _ => ?_)
        | with_reducible refine pcO_bind (pcO_some (JB_ms (by assumption) (by decide))) (fun _ _ => ?_)
        | with_reducible refine pcO_bind (pcO_some (JB_0 (by assumption))) (fun _ _ => ?_)
        | with_reducible refine pcO_any (pcO_sel (fun _ => ?_) (fun _ => ?_))
        | with_reducible refine pcO_any (fun _ => ?_)
theorem JB_findMasses_l15' {B : Int} {n : Nat} {x0 : Int} {m : Mu} (h : JB B m) : pcO (m5_findMasses_l15  n x0 m) (JB B) := JB_findMasses_l15 n x0 m h
theorem JB_findMasses_l91 {B : Int} {v1 : Int} {v2 : Int} : ∀ (n : Nat) (x0 : Int) (m : Mu), JB B m → pcO (m5_findMasses_l91 v1 v2 n x0 m) (JB B) := by
    intro n
    induction n with
    | zero => intro x0 m h; exact pcO_none
    | succ n ih =>
      intro x0 m h
      unfold m5_findMasses_l91
      repeat' first
        | with_reducible exact pcO_none
        | with_reducible exact pcO_some (by assumption)
        | with_reducible exact pcO_inl (by assumption)
        | with_reducible exact pcO_inr (by assumption)
        | with_reducible exact pcO_irl (by assumption)
        | with_reducible exact pcO_irr (by assumption)
        | with_reducible exact ih _ _ (by assumption)
        | with_reducible refine pcO_ite (fun _ => ?_) (fun _ => ?_)
        | with_reducible exact JB_mast (by assumption)
        | with_reducible refine pcO_bind (JB_mast (by assumption)) (fun _ _ => ?_)
        | with_reducible refine pcO_bind (pcO_some (JB_ms (by assumption) (by decide))) (fun _ _ => ?_)
        | with_reducible refine pcO_bind (pcO_some (JB_0 (by assumption))) (fun _ _ => ?_)
        | with_reducible refine pcO_any (pcO_sel (fun _ => ?_) (fun _ => ?_))
        | with_reducible refine pcO_any (fun _ => ?_)
theorem JB_findMasses_l91' {B : Int} {n : Nat} {v1 : Int} {v2 : Int} {x0 : Int} {m : Mu} (h : JB B m) : pcO (m5_findMasses_l91 v1 v2 n x0 m) (JB B) := JB_findMasses_l91 n x0 m h
theorem JB_findMasses_l129 {B : Int} {v1 : Int} : ∀ (n : Nat) (x0 : Int) (m : Mu), JB B m → pcO (m5_findMasses_l129 v1 n x0 m) (JB B) := by
    intro n
    induction n with
    | zero => intro x0 m h; exact pcO_none
    | succ n ih =>
      intro x0 m h
      unfold m5_findMasses_l129
      repeat' first
        | with_reducible exact pcO_none
        | with_reducible exact pcO_some (by assumption)
        | with_reducible exact pcO_inl (by assumption)
        | with_reducible exact pcO_inr (by assumption)
        | with_reducible exact pcO_irl (by assumption)
        | with_reducible exact pcO_irr (by assumption)
        | with_reducible exact ih _ _ (by assumption)
        | with_reducible refine pcO_ite (fun _ => ?_) (fun _ => ?_)
        | with_reducible exact JB_mast (by assumption)
        | with_reducible refine pcO_bind (JB_mast (by assumption)) (fun _ _ => ?_)
        | with_reducible refine pcO_bind (pcO_some (JB_ms (by assumption) (by decide))) (fun _ _ => ?_)
        | with_reducible refine pcO_bind (pcO_some (JB_0 (by assumption))) (fun _ _ => ?_)
        | with_reducible refine pcO_any (pcO_sel (fun _ => ?_) (fun _ => ?_))
        | with_reducible refine pcO_any (fun _ => ?_)
theorem JB_findMasses_l129' {B : Int} {n : Nat} {v1 : Int} {x0 : Int} {m : Mu} (h : JB B m) : pcO (m5_findMasses_l129 v1 n x0 m) (JB B) := JB_findMasses_l129 n x0 m h
theorem JB_findMasses_l170 {B : Int} {v1 : Int} {v4 : Int} : ∀ (n : Nat) (x0 : Int) (m : Mu), JB B m → pcO (m5_findMasses_l170 v1 v4 n x0 m) (JB B) := by
    intro n
    induction n with
    | zero => intro x0 m h; exact pcO_none
    | succ n ih =>
      intro x0 m h
      unfold m5_findMasses_l170
      repeat' first
        | with_reducible exact pcO_none
        | with_reducible exact pcO_some (by assumption)
        | with_reducible exact pcO_inl (by assumption)
        | with_reducible exact pcO_inr (by assumption)
        | with_reducible exact pcO_irl (by assumption)
        | with_reducible exact pcO_irr (by assumption)
        | with_reducible exact ih _ _ (by assumption)
        | with_reducible refine pcO_ite (fun _ => ?_) (fun _ => ?_)
        | with_reducible exact JB_mast (by assumption)
        | with_reducible refine pcO_bind (JB_mast (by assumption)) (fun _ _ => ?_)
        | with_reducible refine pcO_bind (pcO_some (JB_ms (by assumption) (by decide))) (fun _ _ => ?_)
        | with_reducible refine pcO_bind (pcO_some (JB_0 (by assumption))) (fun _ _ => ?_)
        | with_reducible refine pcO_any (pcO_sel (fun _ => ?_) (fun _ => ?_))
        | with_reducible refine pcO_any (fun _ => ?_)
theorem JB_findMasses_l170' {B : Int} {n : Nat} {v1 : Int} {v4 : Int} {x0 : Int} {m : Mu} (h : JB B m) : pcO (m5_findMasses_l170 v1 v4 n x0 m) (JB B) := JB_findMasses_l170 n x0 m h
theorem JB_findMasses_l154 {B : Int} {v1 : Int} : ∀ (n : Nat) (x0 : Int) (m : Mu), JB B m → pcO (m5_findMasses_l154 v1 n x0 m) (JB B) := by
    intro n
    induction n with
    | zero => intro x0 m h; exact pcO_none
    | succ n ih =>
      intro x0 m h
      unfold m5_findMasses_l154
      repeat' first
        | with_reducible exact pcO_none
        | with_reducible exact pcO_some (by assumption)
        | with_reducible exact pcO_inl (by assumption)
        | with_reducible exact pcO_inr (by assumption)
        | with_reducible exact pcO_irl (by assumption)
        | with_reducible exact pcO_irr (by assumption)
        | with_reducible exact ih _ _ (by assumption)
        | with_reducible exact JB_findMasses_l170' (by assumption)
        | with_reducible refine pcO_ite (fun _ => ?_) (fun _ => ?_)
        | with_reducible refine pcO_bind (JB_findMasses_l170' (by assumption)) (fun _ _ => ?_)
        | with_reducible exact JB_mast (by assumption)
        | with_reducible refine pcO_bind (JB_mast (by assumption)) (fun _ _ => ?_)
        | with_reducible refine pcO_bind (pcO_some (JB_ms (by assumption) (by decide))) (fun _ _ => ?_)
        | with_reducible refine pcO_bind (pcO_some (JB_0 (by assumption))) (fun _ _ => ?_)
        | with_reducible refine pcO_any (pcO_sel (fun _ => ?_) (fun _ => ?_))
        | with_reducible refine pcO_any (fun _ => ?_)
theorem JB_findMasses_l154' {B : Int} {n : Nat} {v1 : Int} {x0 : Int} {m : Mu} (h : JB B m) : pcO (m5_findMasses_l154 v1 n x0 m) (JB B) := JB_findMasses_l154 n x0 m h
theorem JB_findMasses_l234 {B : Int} {v1 : Int} : ∀ (n : Nat) (x0 : Int) (m : Mu), JB B m → pcO (m5_findMasses_l234 v1 n x0 m) (JB B) := by
    intro n
    induction n with
    | zero => intro x0 m h; exact pcO_none
    | succ n ih =>
      intro x0 m h
      unfold m5_findMasses_l234
      repeat' first
        | with_reducible exact pcO_none
        | with_reducible exact pcO_some (by assumption)
        | with_reducible exact pcO_inl (by assumption)
        | with_reducible exact pcO_inr (by assumption)
        | with_reducible exact pcO_irl (by assumption)
        | with_reducible exact pcO_irr (by assumption)
        | with_reducible exact ih _ _ (by assumption)
        | with_reducible refine pcO_ite (fun _ => ?_) (fun _ => ?_)
        | with_reducible exact JB_mast (by assumption)
        | with_reducible refine pcO_bind (JB_mast (by assumption)) (fun _ _ => ?_)
        | with_reducible refine pcO_bind (pcO_some (JB_ms (by assumption) (by decide))) (fun _ _ => ?_)
        | with_reducible refine pcO_bind (pcO_some (JB_0 (by assumption))) (fun _ _ => ?_)
        | with_reducible refine pcO_any (pcO_sel (fun _ => ?_) (fun _ => ?_))
        | with_reducible refine pcO_any (fun _ => ?_)
theorem JB_findMasses_l234' {B : Int} {n : Nat} {v1 : Int} {x0 : Int} {m : Mu} (h : JB B m) : pcO (m5_findMasses_l234 v1 n x0 m) (JB B) := JB_findMasses_l234 n x0 m h
theorem JB_findMasses_b231 {B : Int} {m : Mu} {v1 : Int} {kh : Int → Mu → Option (Mu)} (hk : ∀ (y0 : Int) (q : Mu), JB B q → pcO (kh y0 q) (JB B)) (h : JB B m) : pcO (m5_findMasses_b231 kh v1 m) (JB B) := by
    unfold m5_findMasses_b231
    repeat' first
      | with_reducible exact pcO_none
      | with_reducible exact pcO_some (by assumption)
      | with_reducible exact pcO_inl (by assumption)
      | with_reducible exact pcO_inr (by assumption)
      | with_reducible exact pcO_irl (by assumption)
      | with_reducible exact pcO_irr (by assumption)
      | with_reducible exact hk _ _ (by assumption)
      | with_reducible exact JB_findMasses_l234' (by assumption)
      | with_reducible refine pcO_ite (fun _ => ?_) (fun _ => ?_)
      | with_reducible refine pcO_bind (JB_findMasses_l234' (by assumption)) (fun _ _ => ?_)
      | with_reducible exact JB_mast (by assumption)
      | with_reducible refine pcO_bind (JB_mast (by assumption)) (fun _ _ => ?_)
      | with_reducible refine pcO_bind (pcO_some (JB_ms (by assumption) (by decide))) (fun _ _ => ?_)
      | with_reducible refine pcO_bind (pcO_some (JB_0 (by assumption))) (fun _ _ => ?_)
      | with_reducible refine pcO_any (pcO_sel (fun _ => ?_) (fun _ => ?_))
      | with_reducible refine pcO_any (fun _ => ?_)
theorem JB_findMasses_l52 {B : Int} : ∀ (n : Nat) (x0 : Int) (m : Mu), JB B m → pcO (m5_findMasses_l52  n x0 m) (JB B) := by
    intro n
    induction n with
    | zero => intro x0 m h; exact pcO_none
    | succ n ih =>
      intro x0 m h
      unfold m5_findMasses_l52
      repeat' first
        | with_reducible exact pcO_none
        | with_reducible exact pcO_some (by assumption)
        | with_reducible exact pcO_inl (by assumption)
        | with_reducible exact pcO_inr (by assumption)
        | with_reducible exact pcO_irl (by assumption)
        | with_reducible exact pcO_irr (by assumption)
        | with_reducible exact ih _ _ (by assumption)
        | with_reducible exact JB_findMasses_l91' (by assumption)
        | with_reducible exact JB_findMasses_l129' (by assumption)
        | with_reducible exact JB_findMasses_l154' (by assumption)
        | with_reducible exact JB_findMasses_b231 ih (by assumption)
        | with_reducible refine pcO_ite (fun _ => ?_) (fun _ => ?_)
        | with_reducible refine pcO_bind (JB_findMasses_l91' (by assumption)) (fun _ _ => ?_)
        | with_reducible refine pcO_bind (JB_findMasses_l129' (by assumption)) (fun _ _ => ?_)
        | with_reducible refine pcO_bind (JB_findMasses_l154' (by assumption)) (fun _ _ => ?_)
        | with_reducible exact JB_mast (by assumption)
        | with_reducible refine pcO_bind (JB_mast (by assumption)) (fun _ _ => ?_)
        | with_reducible refine pcO_bind (pcO_some (JB_ms (by assumption) (by decide))) (fun _ _ => ?_)
        | with_reducible refine pcO_bind (pcO_some (JB_0 (by assumption))) (fun _ _ => ?_)
        | with_reducible refine pcO_any (pcO_sel (fun _ => ?_) (fun _ => ?_))
        | with_reducible refine pcO_any (fun _ => ?_)
theorem JB_findMasses_l52' {B : Int} {n : Nat} {x0 : Int} {m : Mu} (h : JB B m) : pcO (m5_findMasses_l52  n x0 m) (JB B) := JB_findMasses_l52 n x0 m h
theorem JB_findMasses {B : Int} {m : Mu} (h : JB B m) : pcO (m5_findMasses m) (JB B) := by
    unfold m5_findMasses
    repeat' first
      | with_reducible exact pcO_none
      | with_reducible exact pcO_some (by assumption)
      | with_reducible exact pcO_inl (by assumption)
      | with_reducible exact pcO_inr (by assumption)
      | with_reducible exact pcO_irl (by assumption)
      | with_reducible exact pcO_irr (by assumption)
      | with_reducible exact JB_findMasses_l15' (by assumption)
      | with_reducible exact JB_findMasses_l52' (by assumption)
      | with_reducible refine pcO_ite (fun _ => ?_) (fun _ => ?_)
      | with_reducible refine pcO_bind (JB_findMasses_l15' (by assumption)) (fun _ _ => ?_)
      | with_reducible refine pcO_bind (JB_findMasses_l52' (by assumption)) (fun _ _ => ?_)
      | with_reducible exact JB_mast (by assumption)
      | with_reducible refine pcO_bind (JB_mast (by assumption)) (fun _ _ => ?_)
      | with_reducible refine pcO_bind (pcO_some (JB_ms (by assumption) (by decide))) (fun _ _ => ?_)
      | with_reducible refine pcO_bind (pcO_some (JB_0 (by assumption))) (fun _ _ => ?_)
      | with_reducible refine pcO_any (pcO_sel (fun _ => ?_) (fun _ => ?_))
      | with_reducible refine pcO_any (fun _ => ?_)
theorem JB_mass_b22 {B : Int} {m : Mu} {v1 : Int} (h : JB B m) : pcO (m5_mass_b22 v1 m) (fun r : Int × Mu => JB B r.2) := by
    unfold m5_mass_b22
    repeat' first
      | with_reducible exact pcO_none
      | with_reducible exact pcO_some (by assumption)
      | with_reducible exact pcO_inl (by assumption)
      | with_reducible exact pcO_inr (by assumption)
      | with_reducible exact pcO_irl (by assumption)
      | with_reducible exact pcO_irr (by assumption)
      | with_reducible refine pcO_ite (fun _ => ?_) (fun _ => ?_)
      | with_reducible exact JB_mast (by assumption)
      | with_reducible refine pcO_bind (JB_mast (by assumption)) (fun _ _ => ?_)
      | with_reducible refine pcO_bind (pcO_some (JB_ms (by assumption) (by decide))) (fun _ _ => ?_)
      | with_reducible refine pcO_bind (pcO_some (JB_0 (by assumption))) (fun _ _ => ?_)
      | with_reducible refine pcO_any (pcO_sel (fun _ => ?_) (fun _ => ?_))
      | with_reducible refine pcO_any (fun _ => ?_)
theorem JB_mass {B : Int} {m : Mu} {v1 : Int} (h : JB B m) : pcO (m5_mass v1 m) (fun r : Int × Mu => JB B r.2) := by
    unfold m5_mass
    repeat' first
      | with_reducible exact pcO_none
      | with_reducible exact pcO_some (by assumption)
      | with_reducible exact pcO_inl (by assumption)
      | with_reducible exact pcO_inr (by assumption)
      | with_reducible exact pcO_irl (by assumption)
      | with_reducible exact pcO_irr (by assumption)
      | with_reducible exact JB_findMasses (by assumption)
      | with_reducible exact JB_mass_b22 (by assumption)
      | with_reducible refine pcO_ite (fun _ => ?_) (fun _ => ?_)
      | with_reducible refine pcO_bind (JB_findMasses (by assumption)) (fun _ _ => ?_)
      | with_reducible refine pcO_bind (JB_mass_b22 (by assumption)) (fun _ _ => ?_)
      | with_reducible exact JB_mast (by assumption)
      | with_reducible refine pcO_bind (JB_mast (by assumption)) (fun _ _ => ?_)
      | with_reducible refine pcO_bind (pcO_some (JB_ms (by assumption) (by decide))) (fun _ _ => ?_)
      | with_reducible refine pcO_bind (pcO_some (JB_0 (by assumption))) (fun _ _ => ?_)
      | with_reducible refine pcO_any (pcO_sel (fun _ => ?_) (fun _ => ?_))
      | with_reducible refine pcO_any (fun _ => ?_)
theorem JB_quantile {B : Int} {m : Mu} {v1 : Int} {v2 : Int} (h : JB B m) : pcO (m5_quantile v1 v2 m) (fun r : Int × Mu => JB B r.2) := by
    unfold m5_quantile
    repeat' first
      | with_reducible exact pcO_none
      | with_reducible exact pcO_some (by assumption)
      | with_reducible exact pcO_inl (by assumption)
      | with_reducible exact pcO_inr (by assumption)
      | with_reducible exact pcO_irl (by assumption)
      | with_reducible exact pcO_irr (by assumption)
      | with_reducible exact JB_mass (by assumption)
      | with_reducible refine pcO_ite (fun _ => ?_) (fun _ => ?_)
      | with_reducible refine pcO_bind (JB_mass (by assumption)) (fun _ _ => ?_)
      | with_reducible exact JB_mast (by assumption)
      | with_reducible refine pcO_bind (JB_mast (by assumption)) (fun _ _ => ?_)
      | with_reducible refine pcO_bind (pcO_some (JB_ms (by assumption) (by decide))) (fun _ _ => ?_)
      | with_reducible refine pcO_bind (pcO_some (JB_0 (by assumption))) (fun _ _ => ?_)
      | with_reducible refine pcO_any (pcO_sel (fun _ => ?_) (fun _ => ?_))
      | with_reducible refine pcO_any (fun _ => ?_)
theorem JB_beyond {B : Int} {m : Mu} {v1 : Int} (h : JB B m) : pcO (m5_beyond v1 m) (fun r : Int × Mu => JB B r.2) := by
    unfold m5_beyond
    repeat' first
      | with_reducible exact pcO_none
      | with_reducible exact pcO_some (by assumption)
      | with_reducible exact pcO_inl (by assumption)
      | with_reducible exact pcO_inr (by assumption)
      | with_reducible exact pcO_irl (by assumption)
      | with_reducible exact pcO_irr (by assumption)
      | with_reducible exact JB_findMasses (by assumption)
      | with_reducible refine pcO_ite (fun _ => ?_) (fun _ => ?_)
      | with_reducible refine pcO_bind (JB_findMasses (by assumption)) (fun _ _ => ?_)
      | with_reducible exact JB_mast (by assumption)
      | with_reducible refine pcO_bind (JB_mast (by assumption)) (fun _ _ => ?_)
      | with_reducible refine pcO_bind (pcO_some (JB_ms (by assumption) (by decide))) (fun _ _ => ?_)
      | with_reducible refine pcO_bind (pcO_some (JB_0 (by assumption))) (fun _ _ => ?_)
      | with_reducible refine pcO_any (pcO_sel (fun _ => ?_) (fun _ => ?_))
      | with_reducible refine pcO_any (fun _ => ?_)

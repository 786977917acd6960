/-! THE READER: the twin's places in the text stay within it (partial correctness, printed by gen79.py) -/
def pcO {α : Type} (x : Option α) (Q : α → Prop) : Prop := ∀ r, x = some r → Q r
theorem pcO_none {α : Type} {Q : α → Prop} : pcO none Q := fun r h => by cases h
theorem pcO_some {α : Type} {a : α} {Q : α → Prop} (h : Q a) : pcO (some a) Q := fun r e => by cases e; exact h
theorem pcO_bind {α β : Type} {x : Option α} {f : α → Option β} {Q1 : α → Prop} {Q : β → Prop} (h1 : pcO x Q1) (h2 : ∀ a, Q1 a → pcO (f a) Q) : pcO (x.bind f) Q := fun r e => by
  cases x with
  | none => cases e
  | some a => exact h2 a (h1 a rfl) r e
theorem pcO_any {α β : Type} {x : Option α} {f : α → Option β} {Q : β → Prop} (h2 : ∀ a, pcO (f a) Q) : pcO (x.bind f) Q := fun r e => by
  cases x with
  | none => cases e
  | some a => exact h2 a r e
theorem pcO_ite {α : Type} {c : Prop} {d : Decidable c} {x y : Option α} {Q : α → Prop} (h1 : c → pcO x Q) (h2 : ¬ c → pcO y Q) : pcO (@ite _ c d x y) Q := by
  by_cases z : c
  · rw [if_pos z]; exact h1 z
  · rw [if_neg z]; exact h2 z
/-- the text is T long; the places lie within it -/
def Jt (T : Int) (m : Mu) : Prop := (m.1 2 = T ∧ 0 ≤ T ∧ T ≤ 4000) ∧ (0 ≤ m.1 3 ∧ m.1 3 ≤ T) ∧ m.1 5 ≤ T ∧ (m.1 8 = 0 ∨ m.1 9 ≤ T)
def JS (T : Int) (r : Mu ⊕ Mu ⊕ Mu) : Prop := Sum.elim (Jt T) (Sum.elim (Jt T) (Jt T)) r
theorem JS_1 {T : Int} {q : Mu} (h : Jt T q) : pcO (some (Sum.inl q : Mu ⊕ Mu ⊕ Mu)) (JS T) := pcO_some h
theorem JS_2 {T : Int} {q : Mu} (h : Jt T q) : pcO (some (Sum.inr (Sum.inl q) : Mu ⊕ Mu ⊕ Mu)) (JS T) := pcO_some h
theorem JS_3 {T : Int} {q : Mu} (h : Jt T q) : pcO (some (Sum.inr (Sum.inr q) : Mu ⊕ Mu ⊕ Mu)) (JS T) := pcO_some h
theorem J_ms {T : Int} {m : Mu} {k : Nat} {v : Int} (h : Jt T m) (hk : k ∉ [2, 3, 5, 8, 9]) : Jt T (ms m k v) := by
  simp only [List.mem_cons, List.not_mem_nil, or_false, not_or] at hk
  unfold Jt
  rw [ms_1, ms_1, ms_1, ms_1, ms_1, if_neg (fun e => hk.1 e.symm), if_neg (fun e => hk.2.1 e.symm), if_neg (fun e => hk.2.2.1 e.symm), if_neg (fun e => hk.2.2.2.1 e.symm), if_neg (fun e => hk.2.2.2.2 e.symm)]
  exact h
theorem J_mast {T : Int} {m : Mu} {k n : Nat} {i v : Int} (h : Jt T m) : pcO (mast m k n i v) (Jt T) := fun r e => by
  unfold mast at e
  split at e
  · cases e; exact h
  · cases e
theorem J_3 {T : Int} {m : Mu} {v : Int} (h : Jt T m) (hv : 0 ≤ v ∧ v ≤ T) : Jt T (ms m 3 v) := by
  unfold Jt
  rw [ms_1, ms_1, ms_1, ms_1, ms_1, if_neg (by decide), if_pos rfl, if_neg (by decide), if_neg (by decide), if_neg (by decide)]
  exact ⟨h.1, hv, h.2.2⟩
theorem J_wrong {T : Int} {m : Mu} {v1 : Int} (h : Jt T m) : pcO (m5_wrong v1 m) (Jt T) := by
  unfold m5_wrong
  refine pcO_ite (fun _ => ?_) (fun _ => pcO_some h)
  rw [Option.bind_some, Option.bind_some]
  refine pcO_some ?_
  unfold Jt
  simp only [ms_1]
  exact ⟨h.1, h.2.1, h.2.2.1, Or.inr h.2.2.1⟩
theorem octP {T : Int} {m : Mu} (h : Jt T m) : pcO (m5_octet (m.1 3) m) (fun x => x = -1 ∨ m.1 3 < T) := by
  obtain ⟨⟨h1, h2, h3⟩, ⟨h4, h5⟩, -⟩ := h
  unfold m5_octet
  refine pcO_ite (fun _ => pcO_some (Or.inl rfl)) (fun z => pcO_any (fun _ => pcO_some (Or.inr ?_)))
  rw [h1, w32_id (by omega) (by omega), w32_id (by omega) (by omega)] at z
  omega
theorem letP {x : Int} : pcO (m5_isLetter x) (fun r => w32 r = 0 ∨ x ≠ -1) := by
  unfold m5_isLetter
  exact pcO_ite (fun _ => pcO_some (Or.inl (by decide))) (fun z => fun r _ => Or.inr (fun q => z (by rw [q]; decide)))
theorem figP {x : Int} : pcO (m5_isFigure x) (fun r => w32 r = 0 ∨ x ≠ -1) := by
  unfold m5_isFigure
  exact pcO_ite (fun _ => pcO_some (Or.inl (by decide))) (fun z => fun r _ => Or.inr (fun q => z (by rw [q]; decide)))
theorem J_nextName_l12 {T : Int} : ∀ (n : Nat) (v : Int) (m : Mu), Jt T m → pcO (m5_nextName_l12 n v m) (fun r => Jt T r.2) := by
  intro n
  induction n with
  | zero => intro v m h; exact pcO_none
  | succ n ih =>
    intro v m h
    unfold m5_nextName_l12
    have go : m.1 3 < T → pcO (m5_nextName_b40 (m5_nextName_l12 n) v m) (fun r => Jt T r.2) := fun hlt => by
      unfold m5_nextName_b40 m5_nextName_b67
      refine pcO_ite (fun _ => ?_) (fun _ => ?_)
      · rw [Option.bind_some]; exact ih _ _ (J_3 h (by have := h.2.1; omega))
      · refine pcO_any (fun x => ?_)
        rw [Option.bind_some, Option.bind_some]
        exact ih _ _ (J_3 (J_ms h (by decide)) (by rw [ms_1, if_neg (by decide)]; have := h.2.1; omega))
    refine pcO_bind (octP h) (fun x hx => pcO_bind letP (fun y hy => pcO_ite (fun _ => ?_) (fun z => go (by rcases hy with q | q; exact absurd q z; rcases hx with w | w; exact absurd w q; exact w))))
    refine pcO_bind (octP h) (fun x hx => pcO_bind figP (fun y hy => pcO_ite (fun _ => pcO_some h) (fun z => go (by rcases hy with q | q; exact absurd q z; rcases hx with w | w; exact absurd w q; exact w))))
theorem J_nextName_l96 {T : Int} : ∀ (n : Nat) (v : Int) (m : Mu), Jt T m → pcO (m5_nextName_l96 n v m) (Jt T) := by
  intro n
  induction n with
  | zero => intro v m h; exact pcO_none
  | succ n ih =>
    intro v m h
    unfold m5_nextName_l96
    refine pcO_ite (fun _ => pcO_some h) (fun _ => pcO_ite (fun _ => pcO_any (fun x => pcO_ite (fun _ => ?_) (fun _ => ih _ _ h))) (fun _ => pcO_some h))
    exact pcO_bind (pcO_some (J_ms h (by decide))) (fun _ h1 => pcO_bind (pcO_some (J_ms h1 (by decide))) (fun _ h2 => ih _ _ h2))
theorem J_nextName {T : Int} {m : Mu} (h : Jt T m) : pcO (m5_nextName m) (Jt T) := by
  unfold m5_nextName m5_nextName_b94
  refine pcO_bind (pcO_some (J_ms h (by decide))) (fun _ h1 => pcO_bind (pcO_some (J_ms h1 (by decide))) (fun _ h2 => pcO_bind (J_nextName_l12 _ _ _ h2) (fun q hq => pcO_ite (fun _ => ?_) (fun _ => ?_))))
  · exact pcO_bind (J_nextName_l96 _ _ _ hq) (fun _ h3 => pcO_some h3)
  · exact pcO_bind (pcO_some (J_ms hq (by decide))) (fun _ h3 => pcO_bind (J_nextName_l96 _ _ _ h3) (fun _ h4 => pcO_some h4))
theorem J_nextNumber_l12 {T : Int} : ∀ (n : Nat) (v : Int) (m : Mu), Jt T m → pcO (m5_nextNumber_l12 n v m) (fun r => Jt T r.2) := by
  intro n
  induction n with
  | zero => intro v m h; exact pcO_none
  | succ n ih =>
    intro v m h
    unfold m5_nextNumber_l12 m5_nextNumber_b55
    refine pcO_bind (octP h) (fun x hx => pcO_bind figP (fun y hy => pcO_ite (fun _ => pcO_some h) (fun z => ?_)))
    have hlt : m.1 3 < T := by
      rcases hy with q | q
      · exact absurd q z
      · rcases hx with w | w
        · exact absurd w q
        · exact w
    refine pcO_ite (fun _ => ?_) (fun _ => pcO_any (fun x => ?_))
    · rw [Option.bind_some]; exact ih _ _ (J_3 h (by have := h.2.1; omega))
    · rw [Option.bind_some, Option.bind_some]
      exact ih _ _ (J_3 (J_ms h (by decide)) (by rw [ms_1, if_neg (by decide)]; have := h.2.1; omega))
theorem J_nextNumber {T : Int} {m : Mu} (h : Jt T m) : pcO (m5_nextNumber m) (Jt T) := by
  unfold m5_nextNumber
  refine pcO_bind (pcO_some (J_ms h (by decide))) (fun _ h1 => pcO_bind (pcO_some (J_ms h1 (by decide))) (fun _ h2 => pcO_bind (J_nextNumber_l12 _ _ _ h2) (fun q hq => pcO_ite (fun _ => pcO_some hq) (fun _ => ?_))))
  exact pcO_bind (pcO_some (J_ms hq (by decide))) (fun _ h3 => pcO_some h3)
theorem J_nextSign {T : Int} {m : Mu} {v : Int} (h : Jt T m) (hlt : m.1 3 < T) : pcO (m5_nextSign v m) (Jt T) := by
  unfold m5_nextSign
  refine pcO_bind (Q1 := fun u => Jt T u ∧ u.1 3 < T) (pcO_some ⟨J_ms h (by decide), by rw [ms_1, if_neg (by decide)]; exact hlt⟩) (fun u hu => ?_)
  refine pcO_bind (pcO_some (J_3 hu.1 (by have := hu.1.2.1; have := hu.2; omega))) (fun u2 h2 => ?_)
  refine pcO_bind (octP h2) (fun x hx => ?_)
  have b52 : ∀ k : Int, (u2.1 3 < T ∨ k = 1) → pcO (m5_nextSign_b52 k u2) (Jt T) := fun k hk => by
    unfold m5_nextSign_b52 m5_nextSign_b73
    rw [Option.bind_some]
    have e3 : (ms u2 7 k).1 3 = u2.1 3 := by rw [ms_1, if_neg (by decide)]
    have e7 : (ms u2 7 k).1 7 = k := by rw [ms_1, if_pos rfl]
    have := h2.2.1
    refine pcO_ite (fun _ => ?_) (fun z => ?_)
    · rw [Option.bind_some, e3]; exact pcO_some (J_3 (J_ms h2 (by decide)) (by omega))
    · rw [Option.bind_some, e3]
      rcases hk with q | q
      · exact pcO_some (J_3 (J_ms h2 (by decide)) (by omega))
      · rw [e7, q] at z; exact absurd (by decide) z
  have b98 : ∀ k : Int, (u2.1 3 < T ∨ k = 2) → pcO (m5_nextSign_b98 k u2) (Jt T) := fun k hk => by
    unfold m5_nextSign_b98 m5_nextSign_b119
    rw [Option.bind_some]
    have e3 : (ms u2 7 k).1 3 = u2.1 3 := by rw [ms_1, if_neg (by decide)]
    have e7 : (ms u2 7 k).1 7 = k := by rw [ms_1, if_pos rfl]
    have := h2.2.1
    refine pcO_ite (fun _ => ?_) (fun z => ?_)
    · rw [Option.bind_some, e3]; exact pcO_some (J_3 (J_ms h2 (by decide)) (by omega))
    · rw [Option.bind_some, e3]
      rcases hk with q | q
      · exact pcO_some (J_3 (J_ms h2 (by decide)) (by omega))
      · rw [e7, q] at z; exact absurd (by decide) z
  have nx : ∀ c : Int, w32 x = c → c ≠ -1 → u2.1 3 < T := fun c hc hne => by
    rcases hx with q | q
    · rw [q] at hc; exact absurd (hc.symm.trans (by decide)) hne
    · exact q
  refine pcO_ite (fun _ => pcO_ite (fun z => b52 _ (Or.inl (nx 61 z (by decide)))) (fun _ => pcO_ite (fun z => b52 _ (Or.inl (nx 62 z (by decide)))) (fun _ => b52 _ (Or.inr rfl)))) (fun _ => pcO_ite (fun _ => pcO_ite (fun z => b98 _ (Or.inl (nx 61 z (by decide)))) (fun _ => b98 _ (Or.inr rfl))) (fun _ => ?_))
  repeat' first
    | refine pcO_ite (fun _ => ?_) (fun _ => ?_)
    | exact pcO_bind (pcO_some (J_ms h2 (by decide))) (fun _ h3 => pcO_some h3)
theorem J_next_l58 {T : Int} {v : Int} : ∀ (n : Nat) (m : Mu), Jt T m → pcO (m5_next_l58 v n m) (Jt T) := by
  intro n
  induction n with
  | zero => intro m h; exact pcO_none
  | succ n ih =>
    intro m h
    unfold m5_next_l58
    refine pcO_bind (octP h) (fun x hx => pcO_ite (fun _ => pcO_some h) (fun z => pcO_any (fun y => pcO_ite (fun _ => pcO_some h) (fun _ => ?_))))
    rw [Option.bind_some]
    refine ih _ (J_3 h ?_)
    rcases hx with q | q
    · rw [q] at z; exact absurd (by decide) z
    · have := h.2.1; omega
theorem J_next_l2 {T : Int} : ∀ (n : Nat) (v : Int) (m : Mu), Jt T m → pcO (m5_next_l2 n v m) (Jt T) := by
  intro n
  induction n with
  | zero => intro v m h; exact pcO_none
  | succ n ih =>
    intro v m h
    unfold m5_next_l2 m5_next_b39
    refine pcO_ite (fun _ => pcO_some h) (fun _ => pcO_bind (octP h) (fun x hx => ?_))
    have go : ∀ c : Int, w32 x = c → c ≠ -1 → pcO ((some (ms m 3 (m.1 3 + 1))).bind fun u1 => m5_next_l2 n v u1) (Jt T) := fun c hc hne => by
      rw [Option.bind_some]
      refine ih _ _ (J_3 h ?_)
      rcases hx with q | q
      · rw [q] at hc; exact absurd (hc.symm.trans (by decide)) hne
      · have := h.2.1; omega
    refine pcO_ite (fun z => go 32 z (by decide)) (fun _ => pcO_ite (fun z => go 9 z (by decide)) (fun _ => pcO_ite (fun z => go 10 z (by decide)) (fun _ => pcO_ite (fun z => go 13 z (by decide)) (fun _ => pcO_ite (fun _ => pcO_bind (J_next_l58 _ _ h) (fun _ h1 => ih _ _ h1)) (fun _ => ih _ _ h)))))
theorem J_5 {T : Int} {m : Mu} {v : Int} (h : Jt T m) (hv : v ≤ T) : Jt T (ms m 5 v) := by
  unfold Jt
  rw [ms_1, ms_1, ms_1, ms_1, ms_1, if_neg (by decide), if_neg (by decide), if_pos rfl, if_neg (by decide), if_neg (by decide)]
  exact ⟨h.1, h.2.1, hv, h.2.2.2⟩
theorem J_next {T : Int} {m : Mu} (h : Jt T m) : pcO (m5_next m) (Jt T) := by
  unfold m5_next
  refine pcO_bind (J_next_l2 _ _ _ h) (fun u hu => pcO_bind (pcO_some (J_5 hu hu.2.1.2)) (fun u2 h2 => pcO_bind (octP h2) (fun x hx => ?_)))
  refine pcO_ite (fun z => ?_) (fun _ => pcO_bind (pcO_some (J_ms h2 (by decide))) (fun _ h3 => pcO_some h3))
  have hlt : u2.1 3 < T := by
    rcases hx with q | q
    · rw [q] at z; exact absurd z (by decide)
    · exact q
  refine pcO_any (fun y => pcO_ite (fun _ => pcO_any (fun y => pcO_ite (fun _ => ?_) (fun _ => ?_))) (fun _ => ?_))
  · exact pcO_bind (J_nextSign h2 hlt) (fun _ h3 => pcO_some h3)
  · exact pcO_bind (J_nextNumber h2) (fun _ h3 => pcO_some h3)
  · exact pcO_bind (J_nextName h2) (fun _ h3 => pcO_some h3)
theorem J_cannot {T : Int} {m : Mu} (h : Jt T m) : pcO (m5_cannot m) (Jt T) := by
  unfold m5_cannot m5_cannot_b14
  repeat' first
    | with_reducible exact pcO_none
    | with_reducible exact pcO_some (by assumption)
    | with_reducible exact J_next (by assumption)
    | with_reducible exact J_wrong (by assumption)
    | with_reducible refine pcO_ite (fun _ => ?_) (fun _ => ?_)
    | with_reducible refine pcO_bind (J_next (by assumption)) (fun _ _ => ?_)
    | with_reducible refine pcO_bind (J_wrong (by assumption)) (fun _ _ => ?_)
    | with_reducible refine pcO_bind (J_mast (by assumption)) (fun _ _ => ?_)
    | with_reducible refine pcO_bind (pcO_some (J_ms (by assumption) (by decide))) (fun _ _ => ?_)
    | with_reducible refine pcO_any (fun _ => ?_)
theorem J_countNode {T : Int} {m : Mu} (h : Jt T m) : pcO (m5_countNode m) (Jt T) := by
  unfold m5_countNode
  repeat' first
    | with_reducible exact pcO_none
    | with_reducible exact pcO_some (by assumption)
    | with_reducible exact J_next (by assumption)
    | with_reducible exact J_wrong (by assumption)
    | with_reducible exact J_cannot (by assumption)
    | with_reducible refine pcO_ite (fun _ => ?_) (fun _ => ?_)
    | with_reducible refine pcO_bind (J_next (by assumption)) (fun _ _ => ?_)
    | with_reducible refine pcO_bind (J_wrong (by assumption)) (fun _ _ => ?_)
    | with_reducible refine pcO_bind (J_cannot (by assumption)) (fun _ _ => ?_)
    | with_reducible refine pcO_bind (J_mast (by assumption)) (fun _ _ => ?_)
    | with_reducible refine pcO_bind (pcO_some (J_ms (by assumption) (by decide))) (fun _ _ => ?_)
    | with_reducible refine pcO_any (fun _ => ?_)
theorem J_emit {T : Int} {m : Mu} {v1 : Int} (h : Jt T m) : pcO (m5_emit v1 m) (Jt T) := by
  unfold m5_emit
  repeat' first
    | with_reducible exact pcO_none
    | with_reducible exact pcO_some (by assumption)
    | with_reducible exact J_next (by assumption)
    | with_reducible exact J_wrong (by assumption)
    | with_reducible exact J_cannot (by assumption)
    | with_reducible exact J_countNode (by assumption)
    | with_reducible refine pcO_ite (fun _ => ?_) (fun _ => ?_)
    | with_reducible refine pcO_bind (J_next (by assumption)) (fun _ _ => ?_)
    | with_reducible refine pcO_bind (J_wrong (by assumption)) (fun _ _ => ?_)
    | with_reducible refine pcO_bind (J_cannot (by assumption)) (fun _ _ => ?_)
    | with_reducible refine pcO_bind (J_countNode (by assumption)) (fun _ _ => ?_)
    | with_reducible refine pcO_bind (J_mast (by assumption)) (fun _ _ => ?_)
    | with_reducible refine pcO_bind (pcO_some (J_ms (by assumption) (by decide))) (fun _ _ => ?_)
    | with_reducible refine pcO_any (fun _ => ?_)
theorem J_deeper {T : Int} {m : Mu} {v1 : Int} (h : Jt T m) : pcO (m5_deeper v1 m) (Jt T) := by
  unfold m5_deeper m5_deeper_b15
  repeat' first
    | with_reducible exact pcO_none
    | with_reducible exact pcO_some (by assumption)
    | with_reducible exact J_next (by assumption)
    | with_reducible exact J_wrong (by assumption)
    | with_reducible exact J_cannot (by assumption)
    | with_reducible exact J_countNode (by assumption)
    | with_reducible exact J_emit (by assumption)
    | with_reducible refine pcO_ite (fun _ => ?_) (fun _ => ?_)
    | with_reducible refine pcO_bind (J_next (by assumption)) (fun _ _ => ?_)
    | with_reducible refine pcO_bind (J_wrong (by assumption)) (fun _ _ => ?_)
    | with_reducible refine pcO_bind (J_cannot (by assumption)) (fun _ _ => ?_)
    | with_reducible refine pcO_bind (J_countNode (by assumption)) (fun _ _ => ?_)
    | with_reducible refine pcO_bind (J_emit (by assumption)) (fun _ _ => ?_)
    | with_reducible refine pcO_bind (J_mast (by assumption)) (fun _ _ => ?_)
    | with_reducible refine pcO_bind (pcO_some (J_ms (by assumption) (by decide))) (fun _ _ => ?_)
    | with_reducible refine pcO_any (fun _ => ?_)
theorem J_endPart_l0 {T : Int} : ∀ (n : Nat) (m : Mu), Jt T m → pcO (m5_endPart_l0 n m) (Jt T) := by
  intro n
  induction n with
  | zero => intro  m h; exact pcO_none
  | succ n ih =>
    intro  m h
    unfold m5_endPart_l0
    repeat' first
      | with_reducible exact pcO_none
      | with_reducible exact pcO_some (by assumption)
      | with_reducible exact ih _ (by assumption)
      | with_reducible exact J_next (by assumption)
      | with_reducible exact J_wrong (by assumption)
      | with_reducible exact J_cannot (by assumption)
      | with_reducible exact J_countNode (by assumption)
      | with_reducible exact J_emit (by assumption)
      | with_reducible exact J_deeper (by assumption)
      | with_reducible refine pcO_ite (fun _ => ?_) (fun _ => ?_)
      | with_reducible refine pcO_bind (J_next (by assumption)) (fun _ _ => ?_)
      | with_reducible refine pcO_bind (J_wrong (by assumption)) (fun _ _ => ?_)
      | with_reducible refine pcO_bind (J_cannot (by assumption)) (fun _ _ => ?_)
      | with_reducible refine pcO_bind (J_countNode (by assumption)) (fun _ _ => ?_)
      | with_reducible refine pcO_bind (J_emit (by assumption)) (fun _ _ => ?_)
      | with_reducible refine pcO_bind (J_deeper (by assumption)) (fun _ _ => ?_)
      | with_reducible refine pcO_bind (J_mast (by assumption)) (fun _ _ => ?_)
      | with_reducible refine pcO_bind (pcO_some (J_ms (by assumption) (by decide))) (fun _ _ => ?_)
      | with_reducible refine pcO_any (fun _ => ?_)
theorem J_endPart_l0' {T : Int} {n : Nat} {m : Mu} (h : Jt T m) : pcO (m5_endPart_l0 n m) (Jt T) := J_endPart_l0 n  m h
theorem J_endPart {T : Int} {m : Mu} (h : Jt T m) : pcO (m5_endPart m) (Jt T) := by
  unfold m5_endPart
  repeat' first
    | with_reducible exact pcO_none
    | with_reducible exact pcO_some (by assumption)
    | with_reducible exact J_next (by assumption)
    | with_reducible exact J_wrong (by assumption)
    | with_reducible exact J_cannot (by assumption)
    | with_reducible exact J_countNode (by assumption)
    | with_reducible exact J_emit (by assumption)
    | with_reducible exact J_deeper (by assumption)
    | with_reducible exact J_endPart_l0' (by assumption)
    | with_reducible refine pcO_ite (fun _ => ?_) (fun _ => ?_)
    | with_reducible refine pcO_bind (J_next (by assumption)) (fun _ _ => ?_)
    | with_reducible refine pcO_bind (J_wrong (by assumption)) (fun _ _ => ?_)
    | with_reducible refine pcO_bind (J_cannot (by assumption)) (fun _ _ => ?_)
    | with_reducible refine pcO_bind (J_countNode (by assumption)) (fun _ _ => ?_)
    | with_reducible refine pcO_bind (J_emit (by assumption)) (fun _ _ => ?_)
    | with_reducible refine pcO_bind (J_deeper (by assumption)) (fun _ _ => ?_)
    | with_reducible refine pcO_bind (J_endPart_l0' (by assumption)) (fun _ _ => ?_)
    | with_reducible refine pcO_bind (J_mast (by assumption)) (fun _ _ => ?_)
    | with_reducible refine pcO_bind (pcO_some (J_ms (by assumption) (by decide))) (fun _ _ => ?_)
    | with_reducible refine pcO_any (fun _ => ?_)
theorem J_part {T : Int} {m : Mu} (h : Jt T m) : pcO (m5_part m) (Jt T) := by
  unfold m5_part m5_part_b40 m5_part_b74 m5_part_b99 m5_part_b100 m5_part_b134 m5_part_b166 m5_part_b195 m5_part_b200 m5_part_b243 m5_part_b280
  repeat' first
    | with_reducible exact pcO_none
    | with_reducible exact pcO_some (by assumption)
    | with_reducible exact J_next (by assumption)
    | with_reducible exact J_wrong (by assumption)
    | with_reducible exact J_cannot (by assumption)
    | with_reducible exact J_countNode (by assumption)
    | with_reducible exact J_emit (by assumption)
    | with_reducible exact J_deeper (by assumption)
    | with_reducible exact J_endPart_l0' (by assumption)
    | with_reducible exact J_endPart (by assumption)
    | with_reducible refine pcO_ite (fun _ => ?_) (fun _ => ?_)
    | with_reducible refine pcO_bind (J_next (by assumption)) (fun _ _ => ?_)
    | with_reducible refine pcO_bind (J_wrong (by assumption)) (fun _ _ => ?_)
    | with_reducible refine pcO_bind (J_cannot (by assumption)) (fun _ _ => ?_)
    | with_reducible refine pcO_bind (J_countNode (by assumption)) (fun _ _ => ?_)
    | with_reducible refine pcO_bind (J_emit (by assumption)) (fun _ _ => ?_)
    | with_reducible refine pcO_bind (J_deeper (by assumption)) (fun _ _ => ?_)
    | with_reducible refine pcO_bind (J_endPart_l0' (by assumption)) (fun _ _ => ?_)
    | with_reducible refine pcO_bind (J_endPart (by assumption)) (fun _ _ => ?_)
    | with_reducible refine pcO_bind (J_mast (by assumption)) (fun _ _ => ?_)
    | with_reducible refine pcO_bind (pcO_some (J_ms (by assumption) (by decide))) (fun _ _ => ?_)
    | with_reducible refine pcO_any (fun _ => ?_)
theorem J_cond_l134 {T : Int} {v2 : Int} : ∀ (n : Nat) (m : Mu), Jt T m → pcO (m5_cond_l134 v2 n m) (Jt T) := by
  intro n
  induction n with
  | zero => intro  m h; exact pcO_none
  | succ n ih =>
    intro  m h
    unfold m5_cond_l134 m5_cond_b154
    repeat' first
      | with_reducible exact pcO_none
      | with_reducible exact pcO_some (by assumption)
      | with_reducible exact ih _ (by assumption)
      | with_reducible exact J_next (by assumption)
      | with_reducible exact J_wrong (by assumption)
      | with_reducible exact J_cannot (by assumption)
      | with_reducible exact J_countNode (by assumption)
      | with_reducible exact J_emit (by assumption)
      | with_reducible exact J_deeper (by assumption)
      | with_reducible exact J_endPart_l0' (by assumption)
      | with_reducible exact J_endPart (by assumption)
      | with_reducible exact J_part (by assumption)
      | with_reducible refine pcO_ite (fun _ => ?_) (fun _ => ?_)
      | with_reducible refine pcO_bind (J_next (by assumption)) (fun _ _ => ?_)
      | with_reducible refine pcO_bind (J_wrong (by assumption)) (fun _ _ => ?_)
      | with_reducible refine pcO_bind (J_cannot (by assumption)) (fun _ _ => ?_)
      | with_reducible refine pcO_bind (J_countNode (by assumption)) (fun _ _ => ?_)
      | with_reducible refine pcO_bind (J_emit (by assumption)) (fun _ _ => ?_)
      | with_reducible refine pcO_bind (J_deeper (by assumption)) (fun _ _ => ?_)
      | with_reducible refine pcO_bind (J_endPart_l0' (by assumption)) (fun _ _ => ?_)
      | with_reducible refine pcO_bind (J_endPart (by assumption)) (fun _ _ => ?_)
      | with_reducible refine pcO_bind (J_part (by assumption)) (fun _ _ => ?_)
      | with_reducible refine pcO_bind (J_mast (by assumption)) (fun _ _ => ?_)
      | with_reducible refine pcO_bind (pcO_some (J_ms (by assumption) (by decide))) (fun _ _ => ?_)
      | with_reducible refine pcO_any (fun _ => ?_)
theorem J_cond_l134' {T : Int} {n : Nat} {v2 : Int} {m : Mu} (h : Jt T m) : pcO (m5_cond_l134 v2 n m) (Jt T) := J_cond_l134 n  m h
theorem J_cond_l219 {T : Int} {v1 : Int} : ∀ (n : Nat) (m : Mu), Jt T m → pcO (m5_cond_l219 v1 n m) (Jt T) := by
  intro n
  induction n with
  | zero => intro  m h; exact pcO_none
  | succ n ih =>
    intro  m h
    unfold m5_cond_l219 m5_cond_b235
    repeat' first
      | with_reducible exact pcO_none
      | with_reducible exact pcO_some (by assumption)
      | with_reducible exact ih _ (by assumption)
      | with_reducible exact J_next (by assumption)
      | with_reducible exact J_wrong (by assumption)
      | with_reducible exact J_cannot (by assumption)
      | with_reducible exact J_countNode (by assumption)
      | with_reducible exact J_emit (by assumption)
      | with_reducible exact J_deeper (by assumption)
      | with_reducible exact J_endPart_l0' (by assumption)
      | with_reducible exact J_endPart (by assumption)
      | with_reducible exact J_part (by assumption)
      | with_reducible exact J_cond_l134' (by assumption)
      | with_reducible refine pcO_ite (fun _ => ?_) (fun _ => ?_)
      | with_reducible refine pcO_bind (J_next (by assumption)) (fun _ _ => ?_)
      | with_reducible refine pcO_bind (J_wrong (by assumption)) (fun _ _ => ?_)
      | with_reducible refine pcO_bind (J_cannot (by assumption)) (fun _ _ => ?_)
      | with_reducible refine pcO_bind (J_countNode (by assumption)) (fun _ _ => ?_)
      | with_reducible refine pcO_bind (J_emit (by assumption)) (fun _ _ => ?_)
      | with_reducible refine pcO_bind (J_deeper (by assumption)) (fun _ _ => ?_)
      | with_reducible refine pcO_bind (J_endPart_l0' (by assumption)) (fun _ _ => ?_)
      | with_reducible refine pcO_bind (J_endPart (by assumption)) (fun _ _ => ?_)
      | with_reducible refine pcO_bind (J_part (by assumption)) (fun _ _ => ?_)
      | with_reducible refine pcO_bind (J_cond_l134' (by assumption)) (fun _ _ => ?_)
      | with_reducible refine pcO_bind (J_mast (by assumption)) (fun _ _ => ?_)
      | with_reducible refine pcO_bind (pcO_some (J_ms (by assumption) (by decide))) (fun _ _ => ?_)
      | with_reducible refine pcO_any (fun _ => ?_)
theorem J_cond_l219' {T : Int} {n : Nat} {v1 : Int} {m : Mu} (h : Jt T m) : pcO (m5_cond_l219 v1 n m) (Jt T) := J_cond_l219 n  m h
theorem J_cond_l12 {T : Int} : ∀ (n : Nat) (v1 : Int) (m : Mu), Jt T m → pcO (m5_cond_l12 n v1 m) (JS T) := by
  intro n
  induction n with
  | zero => intro v1 m h; exact pcO_none
  | succ n ih =>
    intro v1 m h
    unfold m5_cond_l12 m5_cond_b123 m5_cond_b182 m5_cond_b199
    repeat' first
      | with_reducible exact pcO_none
      | with_reducible exact pcO_some (by assumption)
      | with_reducible exact ih _ _ (by assumption)
      | with_reducible exact JS_1 (by assumption)
      | with_reducible exact JS_2 (by assumption)
      | with_reducible exact JS_3 (by assumption)
      | with_reducible exact J_next (by assumption)
      | with_reducible exact J_wrong (by assumption)
      | with_reducible exact J_cannot (by assumption)
      | with_reducible exact J_countNode (by assumption)
      | with_reducible exact J_emit (by assumption)
      | with_reducible exact J_deeper (by assumption)
      | with_reducible exact J_endPart_l0' (by assumption)
      | with_reducible exact J_endPart (by assumption)
      | with_reducible exact J_part (by assumption)
      | with_reducible exact J_cond_l134' (by assumption)
      | with_reducible exact J_cond_l219' (by assumption)
      | with_reducible refine pcO_ite (fun _ => ?_) (fun _ => ?_)
      | with_reducible refine pcO_bind (J_next (by assumption)) (fun _ _ => ?_)
      | with_reducible refine pcO_bind (J_wrong (by assumption)) (fun _ _ => ?_)
      | with_reducible refine pcO_bind (J_cannot (by assumption)) (fun _ _ => ?_)
      | with_reducible refine pcO_bind (J_countNode (by assumption)) (fun _ _ => ?_)
      | with_reducible refine pcO_bind (J_emit (by assumption)) (fun _ _ => ?_)
      | with_reducible refine pcO_bind (J_deeper (by assumption)) (fun _ _ => ?_)
      | with_reducible refine pcO_bind (J_endPart_l0' (by assumption)) (fun _ _ => ?_)
      | with_reducible refine pcO_bind (J_endPart (by assumption)) (fun _ _ => ?_)
      | with_reducible refine pcO_bind (J_part (by assumption)) (fun _ _ => ?_)
      | with_reducible refine pcO_bind (J_cond_l134' (by assumption)) (fun _ _ => ?_)
      | with_reducible refine pcO_bind (J_cond_l219' (by assumption)) (fun _ _ => ?_)
      | with_reducible refine pcO_bind (J_mast (by assumption)) (fun _ _ => ?_)
      | with_reducible refine pcO_bind (pcO_some (J_ms (by assumption) (by decide))) (fun _ _ => ?_)
      | with_reducible refine pcO_any (fun _ => ?_)
theorem J_cond_l12' {T : Int} {n : Nat} {v1 : Int} {m : Mu} (h : Jt T m) : pcO (m5_cond_l12 n v1 m) (JS T) := J_cond_l12 n v1 m h
theorem J_cond {T : Int} {m : Mu} (h : Jt T m) : pcO (m5_cond m) (Jt T) := by
  unfold m5_cond
  refine pcO_bind (pcO_some (J_ms h (by decide))) (fun _ h1 => ?_)
  refine pcO_bind (pcO_some (J_ms h1 (by decide))) (fun _ h2 => ?_)
  refine pcO_bind (J_cond_l12' h2) (fun r hr => ?_)
  rcases r with q | q | q
  · exact pcO_some hr
  · exact pcO_bind (J_cannot hr) (fun _ h3 => pcO_some h3)
  · exact pcO_some hr
theorem J_wantsSign {T : Int} {m : Mu} {v1 : Int} (h : Jt T m) : pcO (m5_wantsSign v1 m) (Jt T) := by
  unfold m5_wantsSign
  repeat' first
    | with_reducible exact pcO_none
    | with_reducible exact pcO_some (by assumption)
    | with_reducible exact J_next (by assumption)
    | with_reducible exact J_wrong (by assumption)
    | with_reducible exact J_cannot (by assumption)
    | with_reducible exact J_countNode (by assumption)
    | with_reducible exact J_emit (by assumption)
    | with_reducible exact J_deeper (by assumption)
    | with_reducible exact J_endPart_l0' (by assumption)
    | with_reducible exact J_endPart (by assumption)
    | with_reducible exact J_part (by assumption)
    | with_reducible exact J_cond_l134' (by assumption)
    | with_reducible exact J_cond_l219' (by assumption)
    | with_reducible exact J_cond (by assumption)
    | with_reducible refine pcO_ite (fun _ => ?_) (fun _ => ?_)
    | with_reducible refine pcO_bind (J_next (by assumption)) (fun _ _ => ?_)
    | with_reducible refine pcO_bind (J_wrong (by assumption)) (fun _ _ => ?_)
    | with_reducible refine pcO_bind (J_cannot (by assumption)) (fun _ _ => ?_)
    | with_reducible refine pcO_bind (J_countNode (by assumption)) (fun _ _ => ?_)
    | with_reducible refine pcO_bind (J_emit (by assumption)) (fun _ _ => ?_)
    | with_reducible refine pcO_bind (J_deeper (by assumption)) (fun _ _ => ?_)
    | with_reducible refine pcO_bind (J_endPart_l0' (by assumption)) (fun _ _ => ?_)
    | with_reducible refine pcO_bind (J_endPart (by assumption)) (fun _ _ => ?_)
    | with_reducible refine pcO_bind (J_part (by assumption)) (fun _ _ => ?_)
    | with_reducible refine pcO_bind (J_cond_l134' (by assumption)) (fun _ _ => ?_)
    | with_reducible refine pcO_bind (J_cond_l219' (by assumption)) (fun _ _ => ?_)
    | with_reducible refine pcO_bind (J_cond (by assumption)) (fun _ _ => ?_)
    | with_reducible refine pcO_bind (J_mast (by assumption)) (fun _ _ => ?_)
    | with_reducible refine pcO_bind (pcO_some (J_ms (by assumption) (by decide))) (fun _ _ => ?_)
    | with_reducible refine pcO_any (fun _ => ?_)
theorem J_wantsWord {T : Int} {m : Mu} {v1 : Int} (h : Jt T m) : pcO (m5_wantsWord v1 m) (Jt T) := by
  unfold m5_wantsWord
  repeat' first
    | with_reducible exact pcO_none
    | with_reducible exact pcO_some (by assumption)
    | with_reducible exact J_next (by assumption)
    | with_reducible exact J_wrong (by assumption)
    | with_reducible exact J_cannot (by assumption)
    | with_reducible exact J_countNode (by assumption)
    | with_reducible exact J_emit (by assumption)
    | with_reducible exact J_deeper (by assumption)
    | with_reducible exact J_endPart_l0' (by assumption)
    | with_reducible exact J_endPart (by assumption)
    | with_reducible exact J_part (by assumption)
    | with_reducible exact J_cond_l134' (by assumption)
    | with_reducible exact J_cond_l219' (by assumption)
    | with_reducible exact J_cond (by assumption)
    | with_reducible exact J_wantsSign (by assumption)
    | with_reducible refine pcO_ite (fun _ => ?_) (fun _ => ?_)
    | with_reducible refine pcO_bind (J_next (by assumption)) (fun _ _ => ?_)
    | with_reducible refine pcO_bind (J_wrong (by assumption)) (fun _ _ => ?_)
    | with_reducible refine pcO_bind (J_cannot (by assumption)) (fun _ _ => ?_)
    | with_reducible refine pcO_bind (J_countNode (by assumption)) (fun _ _ => ?_)
    | with_reducible refine pcO_bind (J_emit (by assumption)) (fun _ _ => ?_)
    | with_reducible refine pcO_bind (J_deeper (by assumption)) (fun _ _ => ?_)
    | with_reducible refine pcO_bind (J_endPart_l0' (by assumption)) (fun _ _ => ?_)
    | with_reducible refine pcO_bind (J_endPart (by assumption)) (fun _ _ => ?_)
    | with_reducible refine pcO_bind (J_part (by assumption)) (fun _ _ => ?_)
    | with_reducible refine pcO_bind (J_cond_l134' (by assumption)) (fun _ _ => ?_)
    | with_reducible refine pcO_bind (J_cond_l219' (by assumption)) (fun _ _ => ?_)
    | with_reducible refine pcO_bind (J_cond (by assumption)) (fun _ _ => ?_)
    | with_reducible refine pcO_bind (J_wantsSign (by assumption)) (fun _ _ => ?_)
    | with_reducible refine pcO_bind (J_mast (by assumption)) (fun _ _ => ?_)
    | with_reducible refine pcO_bind (pcO_some (J_ms (by assumption) (by decide))) (fun _ _ => ?_)
    | with_reducible refine pcO_any (fun _ => ?_)
theorem J_wantsNumber {T : Int} {m : Mu} {v1 : Int} {v2 : Int} (h : Jt T m) : pcO (m5_wantsNumber v1 v2 m) (fun r => Jt T r.2) := by
  unfold m5_wantsNumber m5_wantsNumber_b38
  repeat' first
    | with_reducible exact pcO_none
    | with_reducible exact pcO_some (by assumption)
    | with_reducible exact J_next (by assumption)
    | with_reducible exact J_wrong (by assumption)
    | with_reducible exact J_cannot (by assumption)
    | with_reducible exact J_countNode (by assumption)
    | with_reducible exact J_emit (by assumption)
    | with_reducible exact J_deeper (by assumption)
    | with_reducible exact J_endPart_l0' (by assumption)
    | with_reducible exact J_endPart (by assumption)
    | with_reducible exact J_part (by assumption)
    | with_reducible exact J_cond_l134' (by assumption)
    | with_reducible exact J_cond_l219' (by assumption)
    | with_reducible exact J_cond (by assumption)
    | with_reducible exact J_wantsSign (by assumption)
    | with_reducible exact J_wantsWord (by assumption)
    | with_reducible refine pcO_ite (fun _ => ?_) (fun _ => ?_)
    | with_reducible refine pcO_bind (J_next (by assumption)) (fun _ _ => ?_)
    | with_reducible refine pcO_bind (J_wrong (by assumption)) (fun _ _ => ?_)
    | with_reducible refine pcO_bind (J_cannot (by assumption)) (fun _ _ => ?_)
    | with_reducible refine pcO_bind (J_countNode (by assumption)) (fun _ _ => ?_)
    | with_reducible refine pcO_bind (J_emit (by assumption)) (fun _ _ => ?_)
    | with_reducible refine pcO_bind (J_deeper (by assumption)) (fun _ _ => ?_)
    | with_reducible refine pcO_bind (J_endPart_l0' (by assumption)) (fun _ _ => ?_)
    | with_reducible refine pcO_bind (J_endPart (by assumption)) (fun _ _ => ?_)
    | with_reducible refine pcO_bind (J_part (by assumption)) (fun _ _ => ?_)
    | with_reducible refine pcO_bind (J_cond_l134' (by assumption)) (fun _ _ => ?_)
    | with_reducible refine pcO_bind (J_cond_l219' (by assumption)) (fun _ _ => ?_)
    | with_reducible refine pcO_bind (J_cond (by assumption)) (fun _ _ => ?_)
    | with_reducible refine pcO_bind (J_wantsSign (by assumption)) (fun _ _ => ?_)
    | with_reducible refine pcO_bind (J_wantsWord (by assumption)) (fun _ _ => ?_)
    | with_reducible refine pcO_bind (J_mast (by assumption)) (fun _ _ => ?_)
    | with_reducible refine pcO_bind (pcO_some (J_ms (by assumption) (by decide))) (fun _ _ => ?_)
    | with_reducible refine pcO_any (fun _ => ?_)
theorem J_readClause {T : Int} {m : Mu} (h : Jt T m) : pcO (m5_readClause m) (Jt T) := by
  unfold m5_readClause
  repeat' first
    | with_reducible exact pcO_none
    | with_reducible exact pcO_some (by assumption)
    | with_reducible exact J_next (by assumption)
    | with_reducible exact J_wrong (by assumption)
    | with_reducible exact J_cannot (by assumption)
    | with_reducible exact J_countNode (by assumption)
    | with_reducible exact J_emit (by assumption)
    | with_reducible exact J_deeper (by assumption)
    | with_reducible exact J_endPart_l0' (by assumption)
    | with_reducible exact J_endPart (by assumption)
    | with_reducible exact J_part (by assumption)
    | with_reducible exact J_cond_l134' (by assumption)
    | with_reducible exact J_cond_l219' (by assumption)
    | with_reducible exact J_cond (by assumption)
    | with_reducible exact J_wantsSign (by assumption)
    | with_reducible exact J_wantsWord (by assumption)
    | with_reducible exact J_wantsNumber (by assumption)
    | with_reducible refine pcO_ite (fun _ => ?_) (fun _ => ?_)
    | with_reducible refine pcO_bind (J_next (by assumption)) (fun _ _ => ?_)
    | with_reducible refine pcO_bind (J_wrong (by assumption)) (fun _ _ => ?_)
    | with_reducible refine pcO_bind (J_cannot (by assumption)) (fun _ _ => ?_)
    | with_reducible refine pcO_bind (J_countNode (by assumption)) (fun _ _ => ?_)
    | with_reducible refine pcO_bind (J_emit (by assumption)) (fun _ _ => ?_)
    | with_reducible refine pcO_bind (J_deeper (by assumption)) (fun _ _ => ?_)
    | with_reducible refine pcO_bind (J_endPart_l0' (by assumption)) (fun _ _ => ?_)
    | with_reducible refine pcO_bind (J_endPart (by assumption)) (fun _ _ => ?_)
    | with_reducible refine pcO_bind (J_part (by assumption)) (fun _ _ => ?_)
    | with_reducible refine pcO_bind (J_cond_l134' (by assumption)) (fun _ _ => ?_)
    | with_reducible refine pcO_bind (J_cond_l219' (by assumption)) (fun _ _ => ?_)
    | with_reducible refine pcO_bind (J_cond (by assumption)) (fun _ _ => ?_)
    | with_reducible refine pcO_bind (J_wantsSign (by assumption)) (fun _ _ => ?_)
    | with_reducible refine pcO_bind (J_wantsWord (by assumption)) (fun _ _ => ?_)
    | with_reducible refine pcO_bind (J_wantsNumber (by assumption)) (fun _ _ => ?_)
    | with_reducible refine pcO_bind (J_mast (by assumption)) (fun _ _ => ?_)
    | with_reducible refine pcO_bind (pcO_some (J_ms (by assumption) (by decide))) (fun _ _ => ?_)
    | with_reducible refine pcO_any (fun _ => ?_)
theorem J_newName {T : Int} {m : Mu} {v1 : Int} {v2 : Int} (h : Jt T m) : pcO (m5_newName v1 v2 m) (Jt T) := by
  unfold m5_newName m5_newName_b47
  repeat' first
    | with_reducible exact pcO_none
    | with_reducible exact pcO_some (by assumption)
    | with_reducible exact J_next (by assumption)
    | with_reducible exact J_wrong (by assumption)
    | with_reducible exact J_cannot (by assumption)
    | with_reducible exact J_countNode (by assumption)
    | with_reducible exact J_emit (by assumption)
    | with_reducible exact J_deeper (by assumption)
    | with_reducible exact J_endPart_l0' (by assumption)
    | with_reducible exact J_endPart (by assumption)
    | with_reducible exact J_part (by assumption)
    | with_reducible exact J_cond_l134' (by assumption)
    | with_reducible exact J_cond_l219' (by assumption)
    | with_reducible exact J_cond (by assumption)
    | with_reducible exact J_wantsSign (by assumption)
    | with_reducible exact J_wantsWord (by assumption)
    | with_reducible exact J_wantsNumber (by assumption)
    | with_reducible exact J_readClause (by assumption)
    | with_reducible refine pcO_ite (fun _ => ?_) (fun _ => ?_)
    | with_reducible refine pcO_bind (J_next (by assumption)) (fun _ _ => ?_)
    | with_reducible refine pcO_bind (J_wrong (by assumption)) (fun _ _ => ?_)
    | with_reducible refine pcO_bind (J_cannot (by assumption)) (fun _ _ => ?_)
    | with_reducible refine pcO_bind (J_countNode (by assumption)) (fun _ _ => ?_)
    | with_reducible refine pcO_bind (J_emit (by assumption)) (fun _ _ => ?_)
    | with_reducible refine pcO_bind (J_deeper (by assumption)) (fun _ _ => ?_)
    | with_reducible refine pcO_bind (J_endPart_l0' (by assumption)) (fun _ _ => ?_)
    | with_reducible refine pcO_bind (J_endPart (by assumption)) (fun _ _ => ?_)
    | with_reducible refine pcO_bind (J_part (by assumption)) (fun _ _ => ?_)
    | with_reducible refine pcO_bind (J_cond_l134' (by assumption)) (fun _ _ => ?_)
    | with_reducible refine pcO_bind (J_cond_l219' (by assumption)) (fun _ _ => ?_)
    | with_reducible refine pcO_bind (J_cond (by assumption)) (fun _ _ => ?_)
    | with_reducible refine pcO_bind (J_wantsSign (by assumption)) (fun _ _ => ?_)
    | with_reducible refine pcO_bind (J_wantsWord (by assumption)) (fun _ _ => ?_)
    | with_reducible refine pcO_bind (J_wantsNumber (by assumption)) (fun _ _ => ?_)
    | with_reducible refine pcO_bind (J_readClause (by assumption)) (fun _ _ => ?_)
    | with_reducible refine pcO_bind (J_mast (by assumption)) (fun _ _ => ?_)
    | with_reducible refine pcO_bind (pcO_some (J_ms (by assumption) (by decide))) (fun _ _ => ?_)
    | with_reducible refine pcO_any (fun _ => ?_)
theorem J_readChoices_l2 {T : Int} {v1 : Int} : ∀ (n : Nat) (v2 : Int) (m : Mu), Jt T m → pcO (m5_readChoices_l2 v1 n v2 m) (Jt T) := by
  intro n
  induction n with
  | zero => intro v2 m h; exact pcO_none
  | succ n ih =>
    intro v2 m h
    unfold m5_readChoices_l2
    repeat' first
      | with_reducible exact pcO_none
      | with_reducible exact pcO_some (by assumption)
      | with_reducible exact ih _ _ (by assumption)
      | with_reducible exact J_next (by assumption)
      | with_reducible exact J_wrong (by assumption)
      | with_reducible exact J_cannot (by assumption)
      | with_reducible exact J_countNode (by assumption)
      | with_reducible exact J_emit (by assumption)
      | with_reducible exact J_deeper (by assumption)
      | with_reducible exact J_endPart_l0' (by assumption)
      | with_reducible exact J_endPart (by assumption)
      | with_reducible exact J_part (by assumption)
      | with_reducible exact J_cond_l134' (by assumption)
      | with_reducible exact J_cond_l219' (by assumption)
      | with_reducible exact J_cond (by assumption)
      | with_reducible exact J_wantsSign (by assumption)
      | with_reducible exact J_wantsWord (by assumption)
      | with_reducible exact J_wantsNumber (by assumption)
      | with_reducible exact J_readClause (by assumption)
      | with_reducible exact J_newName (by assumption)
      | with_reducible refine pcO_ite (fun _ => ?_) (fun _ => ?_)
      | with_reducible refine pcO_bind (J_next (by assumption)) (fun _ _ => ?_)
      | with_reducible refine pcO_bind (J_wrong (by assumption)) (fun _ _ => ?_)
      | with_reducible refine pcO_bind (J_cannot (by assumption)) (fun _ _ => ?_)
      | with_reducible refine pcO_bind (J_countNode (by assumption)) (fun _ _ => ?_)
      | with_reducible refine pcO_bind (J_emit (by assumption)) (fun _ _ => ?_)
      | with_reducible refine pcO_bind (J_deeper (by assumption)) (fun _ _ => ?_)
      | with_reducible refine pcO_bind (J_endPart_l0' (by assumption)) (fun _ _ => ?_)
      | with_reducible refine pcO_bind (J_endPart (by assumption)) (fun _ _ => ?_)
      | with_reducible refine pcO_bind (J_part (by assumption)) (fun _ _ => ?_)
      | with_reducible refine pcO_bind (J_cond_l134' (by assumption)) (fun _ _ => ?_)
      | with_reducible refine pcO_bind (J_cond_l219' (by assumption)) (fun _ _ => ?_)
      | with_reducible refine pcO_bind (J_cond (by assumption)) (fun _ _ => ?_)
      | with_reducible refine pcO_bind (J_wantsSign (by assumption)) (fun _ _ => ?_)
      | with_reducible refine pcO_bind (J_wantsWord (by assumption)) (fun _ _ => ?_)
      | with_reducible refine pcO_bind (J_wantsNumber (by assumption)) (fun _ _ => ?_)
      | with_reducible refine pcO_bind (J_readClause (by assumption)) (fun _ _ => ?_)
      | with_reducible refine pcO_bind (J_newName (by assumption)) (fun _ _ => ?_)
      | with_reducible refine pcO_bind (J_mast (by assumption)) (fun _ _ => ?_)
      | with_reducible refine pcO_bind (pcO_some (J_ms (by assumption) (by decide))) (fun _ _ => ?_)
      | with_reducible refine pcO_any (fun _ => ?_)
theorem J_readChoices_l2' {T : Int} {n : Nat} {v1 : Int} {v2 : Int} {m : Mu} (h : Jt T m) : pcO (m5_readChoices_l2 v1 n v2 m) (Jt T) := J_readChoices_l2 n v2 m h
theorem J_readChoices {T : Int} {m : Mu} {v1 : Int} (h : Jt T m) : pcO (m5_readChoices v1 m) (Jt T) := by
  unfold m5_readChoices
  repeat' first
    | with_reducible exact pcO_none
    | with_reducible exact pcO_some (by assumption)
    | with_reducible exact J_next (by assumption)
    | with_reducible exact J_wrong (by assumption)
    | with_reducible exact J_cannot (by assumption)
    | with_reducible exact J_countNode (by assumption)
    | with_reducible exact J_emit (by assumption)
    | with_reducible exact J_deeper (by assumption)
    | with_reducible exact J_endPart_l0' (by assumption)
    | with_reducible exact J_endPart (by assumption)
    | with_reducible exact J_part (by assumption)
    | with_reducible exact J_cond_l134' (by assumption)
    | with_reducible exact J_cond_l219' (by assumption)
    | with_reducible exact J_cond (by assumption)
    | with_reducible exact J_wantsSign (by assumption)
    | with_reducible exact J_wantsWord (by assumption)
    | with_reducible exact J_wantsNumber (by assumption)
    | with_reducible exact J_readClause (by assumption)
    | with_reducible exact J_newName (by assumption)
    | with_reducible exact J_readChoices_l2' (by assumption)
    | with_reducible refine pcO_ite (fun _ => ?_) (fun _ => ?_)
    | with_reducible refine pcO_bind (J_next (by assumption)) (fun _ _ => ?_)
    | with_reducible refine pcO_bind (J_wrong (by assumption)) (fun _ _ => ?_)
    | with_reducible refine pcO_bind (J_cannot (by assumption)) (fun _ _ => ?_)
    | with_reducible refine pcO_bind (J_countNode (by assumption)) (fun _ _ => ?_)
    | with_reducible refine pcO_bind (J_emit (by assumption)) (fun _ _ => ?_)
    | with_reducible refine pcO_bind (J_deeper (by assumption)) (fun _ _ => ?_)
    | with_reducible refine pcO_bind (J_endPart_l0' (by assumption)) (fun _ _ => ?_)
    | with_reducible refine pcO_bind (J_endPart (by assumption)) (fun _ _ => ?_)
    | with_reducible refine pcO_bind (J_part (by assumption)) (fun _ _ => ?_)
    | with_reducible refine pcO_bind (J_cond_l134' (by assumption)) (fun _ _ => ?_)
    | with_reducible refine pcO_bind (J_cond_l219' (by assumption)) (fun _ _ => ?_)
    | with_reducible refine pcO_bind (J_cond (by assumption)) (fun _ _ => ?_)
    | with_reducible refine pcO_bind (J_wantsSign (by assumption)) (fun _ _ => ?_)
    | with_reducible refine pcO_bind (J_wantsWord (by assumption)) (fun _ _ => ?_)
    | with_reducible refine pcO_bind (J_wantsNumber (by assumption)) (fun _ _ => ?_)
    | with_reducible refine pcO_bind (J_readClause (by assumption)) (fun _ _ => ?_)
    | with_reducible refine pcO_bind (J_newName (by assumption)) (fun _ _ => ?_)
    | with_reducible refine pcO_bind (J_readChoices_l2' (by assumption)) (fun _ _ => ?_)
    | with_reducible refine pcO_bind (J_mast (by assumption)) (fun _ _ => ?_)
    | with_reducible refine pcO_bind (pcO_some (J_ms (by assumption) (by decide))) (fun _ _ => ?_)
    | with_reducible refine pcO_any (fun _ => ?_)
theorem J_readFact {T : Int} {m : Mu} (h : Jt T m) : pcO (m5_readFact m) (Jt T) := by
  unfold m5_readFact m5_readFact_b208
  repeat' first
    | with_reducible exact pcO_none
    | with_reducible exact pcO_some (by assumption)
    | with_reducible exact J_next (by assumption)
    | with_reducible exact J_wrong (by assumption)
    | with_reducible exact J_cannot (by assumption)
    | with_reducible exact J_countNode (by assumption)
    | with_reducible exact J_emit (by assumption)
    | with_reducible exact J_deeper (by assumption)
    | with_reducible exact J_endPart_l0' (by assumption)
    | with_reducible exact J_endPart (by assumption)
    | with_reducible exact J_part (by assumption)
    | with_reducible exact J_cond_l134' (by assumption)
    | with_reducible exact J_cond_l219' (by assumption)
    | with_reducible exact J_cond (by assumption)
    | with_reducible exact J_wantsSign (by assumption)
    | with_reducible exact J_wantsWord (by assumption)
    | with_reducible exact J_wantsNumber (by assumption)
    | with_reducible exact J_readClause (by assumption)
    | with_reducible exact J_newName (by assumption)
    | with_reducible exact J_readChoices_l2' (by assumption)
    | with_reducible exact J_readChoices (by assumption)
    | with_reducible refine pcO_ite (fun _ => ?_) (fun _ => ?_)
    | with_reducible refine pcO_bind (J_next (by assumption)) (fun _ _ => ?_)
    | with_reducible refine pcO_bind (J_wrong (by assumption)) (fun _ _ => ?_)
    | with_reducible refine pcO_bind (J_cannot (by assumption)) (fun _ _ => ?_)
    | with_reducible refine pcO_bind (J_countNode (by assumption)) (fun _ _ => ?_)
    | with_reducible refine pcO_bind (J_emit (by assumption)) (fun _ _ => ?_)
    | with_reducible refine pcO_bind (J_deeper (by assumption)) (fun _ _ => ?_)
    | with_reducible refine pcO_bind (J_endPart_l0' (by assumption)) (fun _ _ => ?_)
    | with_reducible refine pcO_bind (J_endPart (by assumption)) (fun _ _ => ?_)
    | with_reducible refine pcO_bind (J_part (by assumption)) (fun _ _ => ?_)
    | with_reducible refine pcO_bind (J_cond_l134' (by assumption)) (fun _ _ => ?_)
    | with_reducible refine pcO_bind (J_cond_l219' (by assumption)) (fun _ _ => ?_)
    | with_reducible refine pcO_bind (J_cond (by assumption)) (fun _ _ => ?_)
    | with_reducible refine pcO_bind (J_wantsSign (by assumption)) (fun _ _ => ?_)
    | with_reducible refine pcO_bind (J_wantsWord (by assumption)) (fun _ _ => ?_)
    | with_reducible refine pcO_bind (J_wantsNumber (by assumption)) (fun _ _ => ?_)
    | with_reducible refine pcO_bind (J_readClause (by assumption)) (fun _ _ => ?_)
    | with_reducible refine pcO_bind (J_newName (by assumption)) (fun _ _ => ?_)
    | with_reducible refine pcO_bind (J_readChoices_l2' (by assumption)) (fun _ _ => ?_)
    | with_reducible refine pcO_bind (J_readChoices (by assumption)) (fun _ _ => ?_)
    | with_reducible refine pcO_bind (J_mast (by assumption)) (fun _ _ => ?_)
    | with_reducible refine pcO_bind (pcO_some (J_ms (by assumption) (by decide))) (fun _ _ => ?_)
    | with_reducible refine pcO_any (fun _ => ?_)
theorem J_readMean {T : Int} {m : Mu} (h : Jt T m) : pcO (m5_readMean m) (Jt T) := by
  unfold m5_readMean
  repeat' first
    | with_reducible exact pcO_none
    | with_reducible exact pcO_some (by assumption)
    | with_reducible exact J_next (by assumption)
    | with_reducible exact J_wrong (by assumption)
    | with_reducible exact J_cannot (by assumption)
    | with_reducible exact J_countNode (by assumption)
    | with_reducible exact J_emit (by assumption)
    | with_reducible exact J_deeper (by assumption)
    | with_reducible exact J_endPart_l0' (by assumption)
    | with_reducible exact J_endPart (by assumption)
    | with_reducible exact J_part (by assumption)
    | with_reducible exact J_cond_l134' (by assumption)
    | with_reducible exact J_cond_l219' (by assumption)
    | with_reducible exact J_cond (by assumption)
    | with_reducible exact J_wantsSign (by assumption)
    | with_reducible exact J_wantsWord (by assumption)
    | with_reducible exact J_wantsNumber (by assumption)
    | with_reducible exact J_readClause (by assumption)
    | with_reducible exact J_newName (by assumption)
    | with_reducible exact J_readChoices_l2' (by assumption)
    | with_reducible exact J_readChoices (by assumption)
    | with_reducible exact J_readFact (by assumption)
    | with_reducible refine pcO_ite (fun _ => ?_) (fun _ => ?_)
    | with_reducible refine pcO_bind (J_next (by assumption)) (fun _ _ => ?_)
    | with_reducible refine pcO_bind (J_wrong (by assumption)) (fun _ _ => ?_)
    | with_reducible refine pcO_bind (J_cannot (by assumption)) (fun _ _ => ?_)
    | with_reducible refine pcO_bind (J_countNode (by assumption)) (fun _ _ => ?_)
    | with_reducible refine pcO_bind (J_emit (by assumption)) (fun _ _ => ?_)
    | with_reducible refine pcO_bind (J_deeper (by assumption)) (fun _ _ => ?_)
    | with_reducible refine pcO_bind (J_endPart_l0' (by assumption)) (fun _ _ => ?_)
    | with_reducible refine pcO_bind (J_endPart (by assumption)) (fun _ _ => ?_)
    | with_reducible refine pcO_bind (J_part (by assumption)) (fun _ _ => ?_)
    | with_reducible refine pcO_bind (J_cond_l134' (by assumption)) (fun _ _ => ?_)
    | with_reducible refine pcO_bind (J_cond_l219' (by assumption)) (fun _ _ => ?_)
    | with_reducible refine pcO_bind (J_cond (by assumption)) (fun _ _ => ?_)
    | with_reducible refine pcO_bind (J_wantsSign (by assumption)) (fun _ _ => ?_)
    | with_reducible refine pcO_bind (J_wantsWord (by assumption)) (fun _ _ => ?_)
    | with_reducible refine pcO_bind (J_wantsNumber (by assumption)) (fun _ _ => ?_)
    | with_reducible refine pcO_bind (J_readClause (by assumption)) (fun _ _ => ?_)
    | with_reducible refine pcO_bind (J_newName (by assumption)) (fun _ _ => ?_)
    | with_reducible refine pcO_bind (J_readChoices_l2' (by assumption)) (fun _ _ => ?_)
    | with_reducible refine pcO_bind (J_readChoices (by assumption)) (fun _ _ => ?_)
    | with_reducible refine pcO_bind (J_readFact (by assumption)) (fun _ _ => ?_)
    | with_reducible refine pcO_bind (J_mast (by assumption)) (fun _ _ => ?_)
    | with_reducible refine pcO_bind (pcO_some (J_ms (by assumption) (by decide))) (fun _ _ => ?_)
    | with_reducible refine pcO_any (fun _ => ?_)
theorem J_readSum {T : Int} {m : Mu} {v1 : Int} {v2 : Int} (h : Jt T m) : pcO (m5_readSum v1 v2 m) (Jt T) := by
  unfold m5_readSum
  repeat' first
    | with_reducible exact pcO_none
    | with_reducible exact pcO_some (by assumption)
    | with_reducible exact J_next (by assumption)
    | with_reducible exact J_wrong (by assumption)
    | with_reducible exact J_cannot (by assumption)
    | with_reducible exact J_countNode (by assumption)
    | with_reducible exact J_emit (by assumption)
    | with_reducible exact J_deeper (by assumption)
    | with_reducible exact J_endPart_l0' (by assumption)
    | with_reducible exact J_endPart (by assumption)
    | with_reducible exact J_part (by assumption)
    | with_reducible exact J_cond_l134' (by assumption)
    | with_reducible exact J_cond_l219' (by assumption)
    | with_reducible exact J_cond (by assumption)
    | with_reducible exact J_wantsSign (by assumption)
    | with_reducible exact J_wantsWord (by assumption)
    | with_reducible exact J_wantsNumber (by assumption)
    | with_reducible exact J_readClause (by assumption)
    | with_reducible exact J_newName (by assumption)
    | with_reducible exact J_readChoices_l2' (by assumption)
    | with_reducible exact J_readChoices (by assumption)
    | with_reducible exact J_readFact (by assumption)
    | with_reducible exact J_readMean (by assumption)
    | with_reducible refine pcO_ite (fun _ => ?_) (fun _ => ?_)
    | with_reducible refine pcO_bind (J_next (by assumption)) (fun _ _ => ?_)
    | with_reducible refine pcO_bind (J_wrong (by assumption)) (fun _ _ => ?_)
    | with_reducible refine pcO_bind (J_cannot (by assumption)) (fun _ _ => ?_)
    | with_reducible refine pcO_bind (J_countNode (by assumption)) (fun _ _ => ?_)
    | with_reducible refine pcO_bind (J_emit (by assumption)) (fun _ _ => ?_)
    | with_reducible refine pcO_bind (J_deeper (by assumption)) (fun _ _ => ?_)
    | with_reducible refine pcO_bind (J_endPart_l0' (by assumption)) (fun _ _ => ?_)
    | with_reducible refine pcO_bind (J_endPart (by assumption)) (fun _ _ => ?_)
    | with_reducible refine pcO_bind (J_part (by assumption)) (fun _ _ => ?_)
    | with_reducible refine pcO_bind (J_cond_l134' (by assumption)) (fun _ _ => ?_)
    | with_reducible refine pcO_bind (J_cond_l219' (by assumption)) (fun _ _ => ?_)
    | with_reducible refine pcO_bind (J_cond (by assumption)) (fun _ _ => ?_)
    | with_reducible refine pcO_bind (J_wantsSign (by assumption)) (fun _ _ => ?_)
    | with_reducible refine pcO_bind (J_wantsWord (by assumption)) (fun _ _ => ?_)
    | with_reducible refine pcO_bind (J_wantsNumber (by assumption)) (fun _ _ => ?_)
    | with_reducible refine pcO_bind (J_readClause (by assumption)) (fun _ _ => ?_)
    | with_reducible refine pcO_bind (J_newName (by assumption)) (fun _ _ => ?_)
    | with_reducible refine pcO_bind (J_readChoices_l2' (by assumption)) (fun _ _ => ?_)
    | with_reducible refine pcO_bind (J_readChoices (by assumption)) (fun _ _ => ?_)
    | with_reducible refine pcO_bind (J_readFact (by assumption)) (fun _ _ => ?_)
    | with_reducible refine pcO_bind (J_readMean (by assumption)) (fun _ _ => ?_)
    | with_reducible refine pcO_bind (J_mast (by assumption)) (fun _ _ => ?_)
    | with_reducible refine pcO_bind (pcO_some (J_ms (by assumption) (by decide))) (fun _ _ => ?_)
    | with_reducible refine pcO_any (fun _ => ?_)
theorem J_readMost {T : Int} {m : Mu} (h : Jt T m) : pcO (m5_readMost m) (Jt T) := by
  unfold m5_readMost m5_readMost_b61
  repeat' first
    | with_reducible exact pcO_none
    | with_reducible exact pcO_some (by assumption)
    | with_reducible exact J_next (by assumption)
    | with_reducible exact J_wrong (by assumption)
    | with_reducible exact J_cannot (by assumption)
    | with_reducible exact J_countNode (by assumption)
    | with_reducible exact J_emit (by assumption)
    | with_reducible exact J_deeper (by assumption)
    | with_reducible exact J_endPart_l0' (by assumption)
    | with_reducible exact J_endPart (by assumption)
    | with_reducible exact J_part (by assumption)
    | with_reducible exact J_cond_l134' (by assumption)
    | with_reducible exact J_cond_l219' (by assumption)
    | with_reducible exact J_cond (by assumption)
    | with_reducible exact J_wantsSign (by assumption)
    | with_reducible exact J_wantsWord (by assumption)
    | with_reducible exact J_wantsNumber (by assumption)
    | with_reducible exact J_readClause (by assumption)
    | with_reducible exact J_newName (by assumption)
    | with_reducible exact J_readChoices_l2' (by assumption)
    | with_reducible exact J_readChoices (by assumption)
    | with_reducible exact J_readFact (by assumption)
    | with_reducible exact J_readMean (by assumption)
    | with_reducible exact J_readSum (by assumption)
    | with_reducible refine pcO_ite (fun _ => ?_) (fun _ => ?_)
    | with_reducible refine pcO_bind (J_next (by assumption)) (fun _ _ => ?_)
    | with_reducible refine pcO_bind (J_wrong (by assumption)) (fun _ _ => ?_)
    | with_reducible refine pcO_bind (J_cannot (by assumption)) (fun _ _ => ?_)
    | with_reducible refine pcO_bind (J_countNode (by assumption)) (fun _ _ => ?_)
    | with_reducible refine pcO_bind (J_emit (by assumption)) (fun _ _ => ?_)
    | with_reducible refine pcO_bind (J_deeper (by assumption)) (fun _ _ => ?_)
    | with_reducible refine pcO_bind (J_endPart_l0' (by assumption)) (fun _ _ => ?_)
    | with_reducible refine pcO_bind (J_endPart (by assumption)) (fun _ _ => ?_)
    | with_reducible refine pcO_bind (J_part (by assumption)) (fun _ _ => ?_)
    | with_reducible refine pcO_bind (J_cond_l134' (by assumption)) (fun _ _ => ?_)
    | with_reducible refine pcO_bind (J_cond_l219' (by assumption)) (fun _ _ => ?_)
    | with_reducible refine pcO_bind (J_cond (by assumption)) (fun _ _ => ?_)
    | with_reducible refine pcO_bind (J_wantsSign (by assumption)) (fun _ _ => ?_)
    | with_reducible refine pcO_bind (J_wantsWord (by assumption)) (fun _ _ => ?_)
    | with_reducible refine pcO_bind (J_wantsNumber (by assumption)) (fun _ _ => ?_)
    | with_reducible refine pcO_bind (J_readClause (by assumption)) (fun _ _ => ?_)
    | with_reducible refine pcO_bind (J_newName (by assumption)) (fun _ _ => ?_)
    | with_reducible refine pcO_bind (J_readChoices_l2' (by assumption)) (fun _ _ => ?_)
    | with_reducible refine pcO_bind (J_readChoices (by assumption)) (fun _ _ => ?_)
    | with_reducible refine pcO_bind (J_readFact (by assumption)) (fun _ _ => ?_)
    | with_reducible refine pcO_bind (J_readMean (by assumption)) (fun _ _ => ?_)
    | with_reducible refine pcO_bind (J_readSum (by assumption)) (fun _ _ => ?_)
    | with_reducible refine pcO_bind (J_mast (by assumption)) (fun _ _ => ?_)
    | with_reducible refine pcO_bind (pcO_some (J_ms (by assumption) (by decide))) (fun _ _ => ?_)
    | with_reducible refine pcO_any (fun _ => ?_)
theorem J_readPrice {T : Int} {m : Mu} (h : Jt T m) : pcO (m5_readPrice m) (Jt T) := by
  unfold m5_readPrice m5_readPrice_b62 m5_readPrice_b86 m5_readPrice_b144 m5_readPrice_b174 m5_readPrice_b191 m5_readPrice_b79
  repeat' first
    | with_reducible exact pcO_none
    | with_reducible exact pcO_some (by assumption)
    | with_reducible exact J_next (by assumption)
    | with_reducible exact J_wrong (by assumption)
    | with_reducible exact J_cannot (by assumption)
    | with_reducible exact J_countNode (by assumption)
    | with_reducible exact J_emit (by assumption)
    | with_reducible exact J_deeper (by assumption)
    | with_reducible exact J_endPart_l0' (by assumption)
    | with_reducible exact J_endPart (by assumption)
    | with_reducible exact J_part (by assumption)
    | with_reducible exact J_cond_l134' (by assumption)
    | with_reducible exact J_cond_l219' (by assumption)
    | with_reducible exact J_cond (by assumption)
    | with_reducible exact J_wantsSign (by assumption)
    | with_reducible exact J_wantsWord (by assumption)
    | with_reducible exact J_wantsNumber (by assumption)
    | with_reducible exact J_readClause (by assumption)
    | with_reducible exact J_newName (by assumption)
    | with_reducible exact J_readChoices_l2' (by assumption)
    | with_reducible exact J_readChoices (by assumption)
    | with_reducible exact J_readFact (by assumption)
    | with_reducible exact J_readMean (by assumption)
    | with_reducible exact J_readSum (by assumption)
    | with_reducible exact J_readMost (by assumption)
    | with_reducible refine pcO_ite (fun _ => ?_) (fun _ => ?_)
    | with_reducible refine pcO_bind (J_next (by assumption)) (fun _ _ => ?_)
    | with_reducible refine pcO_bind (J_wrong (by assumption)) (fun _ _ => ?_)
    | with_reducible refine pcO_bind (J_cannot (by assumption)) (fun _ _ => ?_)
    | with_reducible refine pcO_bind (J_countNode (by assumption)) (fun _ _ => ?_)
    | with_reducible refine pcO_bind (J_emit (by assumption)) (fun _ _ => ?_)
    | with_reducible refine pcO_bind (J_deeper (by assumption)) (fun _ _ => ?_)
    | with_reducible refine pcO_bind (J_endPart_l0' (by assumption)) (fun _ _ => ?_)
    | with_reducible refine pcO_bind (J_endPart (by assumption)) (fun _ _ => ?_)
    | with_reducible refine pcO_bind (J_part (by assumption)) (fun _ _ => ?_)
    | with_reducible refine pcO_bind (J_cond_l134' (by assumption)) (fun _ _ => ?_)
    | with_reducible refine pcO_bind (J_cond_l219' (by assumption)) (fun _ _ => ?_)
    | with_reducible refine pcO_bind (J_cond (by assumption)) (fun _ _ => ?_)
    | with_reducible refine pcO_bind (J_wantsSign (by assumption)) (fun _ _ => ?_)
    | with_reducible refine pcO_bind (J_wantsWord (by assumption)) (fun _ _ => ?_)
    | with_reducible refine pcO_bind (J_wantsNumber (by assumption)) (fun _ _ => ?_)
    | with_reducible refine pcO_bind (J_readClause (by assumption)) (fun _ _ => ?_)
    | with_reducible refine pcO_bind (J_newName (by assumption)) (fun _ _ => ?_)
    | with_reducible refine pcO_bind (J_readChoices_l2' (by assumption)) (fun _ _ => ?_)
    | with_reducible refine pcO_bind (J_readChoices (by assumption)) (fun _ _ => ?_)
    | with_reducible refine pcO_bind (J_readFact (by assumption)) (fun _ _ => ?_)
    | with_reducible refine pcO_bind (J_readMean (by assumption)) (fun _ _ => ?_)
    | with_reducible refine pcO_bind (J_readSum (by assumption)) (fun _ _ => ?_)
    | with_reducible refine pcO_bind (J_readMost (by assumption)) (fun _ _ => ?_)
    | with_reducible refine pcO_bind (J_mast (by assumption)) (fun _ _ => ?_)
    | with_reducible refine pcO_bind (pcO_some (J_ms (by assumption) (by decide))) (fun _ _ => ?_)
    | with_reducible refine pcO_any (fun _ => ?_)
theorem J_readStatement {T : Int} {m : Mu} (h : Jt T m) : pcO (m5_readStatement m) (Jt T) := by
  unfold m5_readStatement m5_readStatement_b93 m5_readStatement_b104 m5_readStatement_b149 m5_readStatement_b194
  repeat' first
    | with_reducible exact pcO_none
    | with_reducible exact pcO_some (by assumption)
    | with_reducible exact J_next (by assumption)
    | with_reducible exact J_wrong (by assumption)
    | with_reducible exact J_cannot (by assumption)
    | with_reducible exact J_countNode (by assumption)
    | with_reducible exact J_emit (by assumption)
    | with_reducible exact J_deeper (by assumption)
    | with_reducible exact J_endPart_l0' (by assumption)
    | with_reducible exact J_endPart (by assumption)
    | with_reducible exact J_part (by assumption)
    | with_reducible exact J_cond_l134' (by assumption)
    | with_reducible exact J_cond_l219' (by assumption)
    | with_reducible exact J_cond (by assumption)
    | with_reducible exact J_wantsSign (by assumption)
    | with_reducible exact J_wantsWord (by assumption)
    | with_reducible exact J_wantsNumber (by assumption)
    | with_reducible exact J_readClause (by assumption)
    | with_reducible exact J_newName (by assumption)
    | with_reducible exact J_readChoices_l2' (by assumption)
    | with_reducible exact J_readChoices (by assumption)
    | with_reducible exact J_readFact (by assumption)
    | with_reducible exact J_readMean (by assumption)
    | with_reducible exact J_readSum (by assumption)
    | with_reducible exact J_readMost (by assumption)
    | with_reducible exact J_readPrice (by assumption)
    | with_reducible refine pcO_ite (fun _ => ?_) (fun _ => ?_)
    | with_reducible refine pcO_bind (J_next (by assumption)) (fun _ _ => ?_)
    | with_reducible refine pcO_bind (J_wrong (by assumption)) (fun _ _ => ?_)
    | with_reducible refine pcO_bind (J_cannot (by assumption)) (fun _ _ => ?_)
    | with_reducible refine pcO_bind (J_countNode (by assumption)) (fun _ _ => ?_)
    | with_reducible refine pcO_bind (J_emit (by assumption)) (fun _ _ => ?_)
    | with_reducible refine pcO_bind (J_deeper (by assumption)) (fun _ _ => ?_)
    | with_reducible refine pcO_bind (J_endPart_l0' (by assumption)) (fun _ _ => ?_)
    | with_reducible refine pcO_bind (J_endPart (by assumption)) (fun _ _ => ?_)
    | with_reducible refine pcO_bind (J_part (by assumption)) (fun _ _ => ?_)
    | with_reducible refine pcO_bind (J_cond_l134' (by assumption)) (fun _ _ => ?_)
    | with_reducible refine pcO_bind (J_cond_l219' (by assumption)) (fun _ _ => ?_)
    | with_reducible refine pcO_bind (J_cond (by assumption)) (fun _ _ => ?_)
    | with_reducible refine pcO_bind (J_wantsSign (by assumption)) (fun _ _ => ?_)
    | with_reducible refine pcO_bind (J_wantsWord (by assumption)) (fun _ _ => ?_)
    | with_reducible refine pcO_bind (J_wantsNumber (by assumption)) (fun _ _ => ?_)
    | with_reducible refine pcO_bind (J_readClause (by assumption)) (fun _ _ => ?_)
    | with_reducible refine pcO_bind (J_newName (by assumption)) (fun _ _ => ?_)
    | with_reducible refine pcO_bind (J_readChoices_l2' (by assumption)) (fun _ _ => ?_)
    | with_reducible refine pcO_bind (J_readChoices (by assumption)) (fun _ _ => ?_)
    | with_reducible refine pcO_bind (J_readFact (by assumption)) (fun _ _ => ?_)
    | with_reducible refine pcO_bind (J_readMean (by assumption)) (fun _ _ => ?_)
    | with_reducible refine pcO_bind (J_readSum (by assumption)) (fun _ _ => ?_)
    | with_reducible refine pcO_bind (J_readMost (by assumption)) (fun _ _ => ?_)
    | with_reducible refine pcO_bind (J_readPrice (by assumption)) (fun _ _ => ?_)
    | with_reducible refine pcO_bind (J_mast (by assumption)) (fun _ _ => ?_)
    | with_reducible refine pcO_bind (pcO_some (J_ms (by assumption) (by decide))) (fun _ _ => ?_)
    | with_reducible refine pcO_any (fun _ => ?_)
theorem J_wording_l25 {T : Int} : ∀ (n : Nat) (m : Mu), Jt T m → pcO (m5_wording_l25 n m) (Jt T) := by
  intro n
  induction n with
  | zero => intro  m h; exact pcO_none
  | succ n ih =>
    intro  m h
    unfold m5_wording_l25
    repeat' first
      | with_reducible exact pcO_none
      | with_reducible exact pcO_some (by assumption)
      | with_reducible exact ih _ (by assumption)
      | with_reducible exact J_next (by assumption)
      | with_reducible exact J_wrong (by assumption)
      | with_reducible exact J_cannot (by assumption)
      | with_reducible exact J_countNode (by assumption)
      | with_reducible exact J_emit (by assumption)
      | with_reducible exact J_deeper (by assumption)
      | with_reducible exact J_endPart_l0' (by assumption)
      | with_reducible exact J_endPart (by assumption)
      | with_reducible exact J_part (by assumption)
      | with_reducible exact J_cond_l134' (by assumption)
      | with_reducible exact J_cond_l219' (by assumption)
      | with_reducible exact J_cond (by assumption)
      | with_reducible exact J_wantsSign (by assumption)
      | with_reducible exact J_wantsWord (by assumption)
      | with_reducible exact J_wantsNumber (by assumption)
      | with_reducible exact J_readClause (by assumption)
      | with_reducible exact J_newName (by assumption)
      | with_reducible exact J_readChoices_l2' (by assumption)
      | with_reducible exact J_readChoices (by assumption)
      | with_reducible exact J_readFact (by assumption)
      | with_reducible exact J_readMean (by assumption)
      | with_reducible exact J_readSum (by assumption)
      | with_reducible exact J_readMost (by assumption)
      | with_reducible exact J_readPrice (by assumption)
      | with_reducible exact J_readStatement (by assumption)
      | with_reducible refine pcO_ite (fun _ => ?_) (fun _ => ?_)
      | with_reducible refine pcO_bind (J_next (by assumption)) (fun _ _ => ?_)
      | with_reducible refine pcO_bind (J_wrong (by assumption)) (fun _ _ => ?_)
      | with_reducible refine pcO_bind (J_cannot (by assumption)) (fun _ _ => ?_)
      | with_reducible refine pcO_bind (J_countNode (by assumption)) (fun _ _ => ?_)
      | with_reducible refine pcO_bind (J_emit (by assumption)) (fun _ _ => ?_)
      | with_reducible refine pcO_bind (J_deeper (by assumption)) (fun _ _ => ?_)
      | with_reducible refine pcO_bind (J_endPart_l0' (by assumption)) (fun _ _ => ?_)
      | with_reducible refine pcO_bind (J_endPart (by assumption)) (fun _ _ => ?_)
      | with_reducible refine pcO_bind (J_part (by assumption)) (fun _ _ => ?_)
      | with_reducible refine pcO_bind (J_cond_l134' (by assumption)) (fun _ _ => ?_)
      | with_reducible refine pcO_bind (J_cond_l219' (by assumption)) (fun _ _ => ?_)
      | with_reducible refine pcO_bind (J_cond (by assumption)) (fun _ _ => ?_)
      | with_reducible refine pcO_bind (J_wantsSign (by assumption)) (fun _ _ => ?_)
      | with_reducible refine pcO_bind (J_wantsWord (by assumption)) (fun _ _ => ?_)
      | with_reducible refine pcO_bind (J_wantsNumber (by assumption)) (fun _ _ => ?_)
      | with_reducible refine pcO_bind (J_readClause (by assumption)) (fun _ _ => ?_)
      | with_reducible refine pcO_bind (J_newName (by assumption)) (fun _ _ => ?_)
      | with_reducible refine pcO_bind (J_readChoices_l2' (by assumption)) (fun _ _ => ?_)
      | with_reducible refine pcO_bind (J_readChoices (by assumption)) (fun _ _ => ?_)
      | with_reducible refine pcO_bind (J_readFact (by assumption)) (fun _ _ => ?_)
      | with_reducible refine pcO_bind (J_readMean (by assumption)) (fun _ _ => ?_)
      | with_reducible refine pcO_bind (J_readSum (by assumption)) (fun _ _ => ?_)
      | with_reducible refine pcO_bind (J_readMost (by assumption)) (fun _ _ => ?_)
      | with_reducible refine pcO_bind (J_readPrice (by assumption)) (fun _ _ => ?_)
      | with_reducible refine pcO_bind (J_readStatement (by assumption)) (fun _ _ => ?_)
      | with_reducible refine pcO_bind (J_mast (by assumption)) (fun _ _ => ?_)
      | with_reducible refine pcO_bind (pcO_some (J_ms (by assumption) (by decide))) (fun _ _ => ?_)
      | with_reducible refine pcO_any (fun _ => ?_)
theorem J_wording_l25' {T : Int} {n : Nat} {m : Mu} (h : Jt T m) : pcO (m5_wording_l25 n m) (Jt T) := J_wording_l25 n  m h

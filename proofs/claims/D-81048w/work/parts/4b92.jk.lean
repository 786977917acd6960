/-! ENDORSE: what joining does not touch (partial correctness, printed by gen92.py) -/
def JK (m0 m : Mu) : Prop := ∀ k ∈ KW, m.2 k = m0.2 k
theorem JK_mast {m0 m : Mu} {k n : Nat} {i v : Int} (h : JK m0 m) (hk : k ∉ KW) : pcO (mast m k n i v) (JK m0) := fun r e => by
  unfold mast at e
  split at e
  · cases e
    intro j hj
    rw [← h j hj]
    exact ma_o (fun q => hk (q ▸ hj))
  · cases e
theorem JK_copyNodes_l3 {m0 : Mu} {v1 : Int} {v2 : Int} {v4 : Int} : ∀ (n : Nat) (v5 : Int) (m : Mu), JK m0 m → pcO (m5_copyNodes_l3 v1 v2 v4 n v5 m) (JK m0) := by
  intro n
  induction n with
  | zero => intro v5 m h; exact pcO_none
  | succ n ih =>
    intro v5 m h
    unfold m5_copyNodes_l3
    repeat' first
      | with_reducible exact pcO_none
      | with_reducible exact pcO_some (by assumption)
      | with_reducible exact ih _ _ (by assumption)
      | with_reducible refine pcO_ite (fun _ => ?_) (fun _ => ?_)
      | with_reducible exact JK_mast (by assumption) (by decide)
      | with_reducible refine pcO_bind (JK_mast (by assumption) (by decide)) (fun _ _ => ?_)
      | with_reducible refine pcO_any (fun _ => ?_)
theorem JK_copyNodes_l3' {m0 : Mu} {n : Nat} {v1 : Int} {v2 : Int} {v4 : Int} {v5 : Int} {m : Mu} (h : JK m0 m) : pcO (m5_copyNodes_l3 v1 v2 v4 n v5 m) (JK m0) := JK_copyNodes_l3 n v5 m h
theorem JK_copyNodes {m0 m : Mu} {v1 : Int} {v2 : Int} {v3 : Int} {v4 : Int} (h : JK m0 m) : pcO (m5_copyNodes v1 v2 v3 v4 m) (JK m0) := by
  unfold m5_copyNodes
  repeat' first
    | with_reducible exact pcO_none
    | with_reducible exact pcO_some (by assumption)
    | with_reducible exact JK_copyNodes_l3' (by assumption)
    | with_reducible refine pcO_ite (fun _ => ?_) (fun _ => ?_)
    | with_reducible refine pcO_bind (JK_copyNodes_l3' (by assumption)) (fun _ _ => ?_)
    | with_reducible exact JK_mast (by assumption) (by decide)
    | with_reducible refine pcO_bind (JK_mast (by assumption) (by decide)) (fun _ _ => ?_)
    | with_reducible refine pcO_any (fun _ => ?_)
theorem JK_takeNodes_l3 {m0 : Mu} {v1 : Int} {v3 : Int} : ∀ (n : Nat) (v4 : Int) (m : Mu), JK m0 m → pcO (m5_takeNodes_l3 v1 v3 n v4 m) (JK m0) := by
  intro n
  induction n with
  | zero => intro v4 m h; exact pcO_none
  | succ n ih =>
    intro v4 m h
    unfold m5_takeNodes_l3
    repeat' first
      | with_reducible exact pcO_none
      | with_reducible exact pcO_some (by assumption)
      | with_reducible exact ih _ _ (by assumption)
      | with_reducible exact JK_copyNodes_l3' (by assumption)
      | with_reducible exact JK_copyNodes (by assumption)
      | with_reducible refine pcO_ite (fun _ => ?_) (fun _ => ?_)
      | with_reducible refine pcO_bind (JK_copyNodes_l3' (by assumption)) (fun _ _ => ?_)
      | with_reducible refine pcO_bind (JK_copyNodes (by assumption)) (fun _ _ => ?_)
      | with_reducible exact JK_mast (by assumption) (by decide)
      | with_reducible refine pcO_bind (JK_mast (by assumption) (by decide)) (fun _ _ => ?_)
      | with_reducible refine pcO_any (fun _ => ?_)
theorem JK_takeNodes_l3' {m0 : Mu} {n : Nat} {v1 : Int} {v3 : Int} {v4 : Int} {m : Mu} (h : JK m0 m) : pcO (m5_takeNodes_l3 v1 v3 n v4 m) (JK m0) := JK_takeNodes_l3 n v4 m h
theorem JK_takeNodes {m0 m : Mu} {v1 : Int} {v2 : Int} {v3 : Int} (h : JK m0 m) : pcO (m5_takeNodes v1 v2 v3 m) (JK m0) := by
  unfold m5_takeNodes
  repeat' first
    | with_reducible exact pcO_none
    | with_reducible exact pcO_some (by assumption)
    | with_reducible exact JK_copyNodes_l3' (by assumption)
    | with_reducible exact JK_copyNodes (by assumption)
    | with_reducible exact JK_takeNodes_l3' (by assumption)
    | with_reducible refine pcO_ite (fun _ => ?_) (fun _ => ?_)
    | with_reducible refine pcO_bind (JK_copyNodes_l3' (by assumption)) (fun _ _ => ?_)
    | with_reducible refine pcO_bind (JK_copyNodes (by assumption)) (fun _ _ => ?_)
    | with_reducible refine pcO_bind (JK_takeNodes_l3' (by assumption)) (fun _ _ => ?_)
    | with_reducible exact JK_mast (by assumption) (by decide)
    | with_reducible refine pcO_bind (JK_mast (by assumption) (by decide)) (fun _ _ => ?_)
    | with_reducible refine pcO_any (fun _ => ?_)
theorem JK_putClause {m0 m : Mu} {v1 : Int} {v2 : Int} (h : JK m0 m) : pcO (m5_putClause v1 v2 m) (JK m0) := by
  unfold m5_putClause
  repeat' first
    | with_reducible exact pcO_none
    | with_reducible exact pcO_some (by assumption)
    | with_reducible exact JK_copyNodes_l3' (by assumption)
    | with_reducible exact JK_copyNodes (by assumption)
    | with_reducible exact JK_takeNodes_l3' (by assumption)
    | with_reducible exact JK_takeNodes (by assumption)
    | with_reducible refine pcO_ite (fun _ => ?_) (fun _ => ?_)
    | with_reducible refine pcO_bind (JK_copyNodes_l3' (by assumption)) (fun _ _ => ?_)
    | with_reducible refine pcO_bind (JK_copyNodes (by assumption)) (fun _ _ => ?_)
    | with_reducible refine pcO_bind (JK_takeNodes_l3' (by assumption)) (fun _ _ => ?_)
    | with_reducible refine pcO_bind (JK_takeNodes (by assumption)) (fun _ _ => ?_)
    | with_reducible exact JK_mast (by assumption) (by decide)
    | with_reducible refine pcO_bind (JK_mast (by assumption) (by decide)) (fun _ _ => ?_)
    | with_reducible refine pcO_any (fun _ => ?_)
theorem JK_join_l264 {m0 : Mu} {v1 : Int} {v2 : Int} : ∀ (n : Nat) (v5 : Int) (m : Mu), JK m0 m → pcO (m5_join_l264 v1 v2 n v5 m) (JK m0) := by
  intro n
  induction n with
  | zero => intro v5 m h; exact pcO_none
  | succ n ih =>
    intro v5 m h
    unfold m5_join_l264
    repeat' first
      | with_reducible exact pcO_none
      | with_reducible exact pcO_some (by assumption)
      | with_reducible exact ih _ _ (by assumption)
      | with_reducible exact JK_copyNodes_l3' (by assumption)
      | with_reducible exact JK_copyNodes (by assumption)
      | with_reducible exact JK_takeNodes_l3' (by assumption)
      | with_reducible exact JK_takeNodes (by assumption)
      | with_reducible exact JK_putClause (by assumption)
      | with_reducible refine pcO_ite (fun _ => ?_) (fun _ => ?_)
      | with_reducible refine pcO_bind (JK_copyNodes_l3' (by assumption)) (fun _ _ => ?_)
      | with_reducible refine pcO_bind (JK_copyNodes (by assumption)) (fun _ _ => ?_)
      | with_reducible refine pcO_bind (JK_takeNodes_l3' (by assumption)) (fun _ _ => ?_)
      | with_reducible refine pcO_bind (JK_takeNodes (by assumption)) (fun _ _ => ?_)
      | with_reducible refine pcO_bind (JK_putClause (by assumption)) (fun _ _ => ?_)
      | with_reducible exact JK_mast (by assumption) (by decide)
      | with_reducible refine pcO_bind (JK_mast (by assumption) (by decide)) (fun _ _ => ?_)
      | with_reducible refine pcO_any (fun _ => ?_)
theorem JK_join_l264' {m0 : Mu} {n : Nat} {v1 : Int} {v2 : Int} {v5 : Int} {m : Mu} (h : JK m0 m) : pcO (m5_join_l264 v1 v2 n v5 m) (JK m0) := JK_join_l264 n v5 m h
theorem JK_join_l350 {m0 : Mu} {v1 : Int} {v2 : Int} : ∀ (n : Nat) (v5 : Int) (m : Mu), JK m0 m → pcO (m5_join_l350 v1 v2 n v5 m) (JK m0) := by
  intro n
  induction n with
  | zero => intro v5 m h; exact pcO_none
  | succ n ih =>
    intro v5 m h
    unfold m5_join_l350
    repeat' first
      | with_reducible exact pcO_none
      | with_reducible exact pcO_some (by assumption)
      | with_reducible exact ih _ _ (by assumption)
      | with_reducible exact JK_copyNodes_l3' (by assumption)
      | with_reducible exact JK_copyNodes (by assumption)
      | with_reducible exact JK_takeNodes_l3' (by assumption)
      | with_reducible exact JK_takeNodes (by assumption)
      | with_reducible exact JK_putClause (by assumption)
      | with_reducible exact JK_join_l264' (by assumption)
      | with_reducible refine pcO_ite (fun _ => ?_) (fun _ => ?_)
      | with_reducible refine pcO_bind (JK_copyNodes_l3' (by assumption)) (fun _ _ => ?_)
      | with_reducible refine pcO_bind (JK_copyNodes (by assumption)) (fun _ _ => ?_)
      | with_reducible refine pcO_bind (JK_takeNodes_l3' (by assumption)) (fun _ _ => ?_)
      | with_reducible refine pcO_bind (JK_takeNodes (by assumption)) (fun _ _ => ?_)
      | with_reducible refine pcO_bind (JK_putClause (by assumption)) (fun _ _ => ?_)
      | with_reducible refine pcO_bind (JK_join_l264' (by assumption)) (fun _ _ => ?_)
      | with_reducible exact JK_mast (by assumption) (by decide)
      | with_reducible refine pcO_bind (JK_mast (by assumption) (by decide)) (fun _ _ => ?_)
      | with_reducible refine pcO_any (fun _ => ?_)
theorem JK_join_l350' {m0 : Mu} {n : Nat} {v1 : Int} {v2 : Int} {v5 : Int} {m : Mu} (h : JK m0 m) : pcO (m5_join_l350 v1 v2 n v5 m) (JK m0) := JK_join_l350 n v5 m h
theorem JK_join_l518 {m0 : Mu} {v1 : Int} {v2 : Int} : ∀ (n : Nat) (v5 : Int) (m : Mu), JK m0 m → pcO (m5_join_l518 v1 v2 n v5 m) (JK m0) := by
  intro n
  induction n with
  | zero => intro v5 m h; exact pcO_none
  | succ n ih =>
    intro v5 m h
    unfold m5_join_l518
    repeat' first
      | with_reducible exact pcO_none
      | with_reducible exact pcO_some (by assumption)
      | with_reducible exact ih _ _ (by assumption)
      | with_reducible exact JK_copyNodes_l3' (by assumption)
      | with_reducible exact JK_copyNodes (by assumption)
      | with_reducible exact JK_takeNodes_l3' (by assumption)
      | with_reducible exact JK_takeNodes (by assumption)
      | with_reducible exact JK_putClause (by assumption)
      | with_reducible exact JK_join_l264' (by assumption)
      | with_reducible exact JK_join_l350' (by assumption)
      | with_reducible refine pcO_ite (fun _ => ?_) (fun _ => ?_)
      | with_reducible refine pcO_bind (JK_copyNodes_l3' (by assumption)) (fun _ _ => ?_)
      | with_reducible refine pcO_bind (JK_copyNodes (by assumption)) (fun _ _ => ?_)
      | with_reducible refine pcO_bind (JK_takeNodes_l3' (by assumption)) (fun _ _ => ?_)
      | with_reducible refine pcO_bind (JK_takeNodes (by assumption)) (fun _ _ => ?_)
      | with_reducible refine pcO_bind (JK_putClause (by assumption)) (fun _ _ => ?_)
      | with_reducible refine pcO_bind (JK_join_l264' (by assumption)) (fun _ _ => ?_)
      | with_reducible refine pcO_bind (JK_join_l350' (by assumption)) (fun _ _ => ?_)
      | with_reducible exact JK_mast (by assumption) (by decide)
      | with_reducible refine pcO_bind (JK_mast (by assumption) (by decide)) (fun _ _ => ?_)
      | with_reducible refine pcO_any (fun _ => ?_)
theorem JK_join_l518' {m0 : Mu} {n : Nat} {v1 : Int} {v2 : Int} {v5 : Int} {m : Mu} (h : JK m0 m) : pcO (m5_join_l518 v1 v2 n v5 m) (JK m0) := JK_join_l518 n v5 m h
theorem JK_join_l553 {m0 : Mu} {v1 : Int} {v2 : Int} : ∀ (n : Nat) (v5 : Int) (m : Mu), JK m0 m → pcO (m5_join_l553 v1 v2 n v5 m) (JK m0) := by
  intro n
  induction n with
  | zero => intro v5 m h; exact pcO_none
  | succ n ih =>
    intro v5 m h
    unfold m5_join_l553
    repeat' first
      | with_reducible exact pcO_none
      | with_reducible exact pcO_some (by assumption)
      | with_reducible exact ih _ _ (by assumption)
      | with_reducible exact JK_copyNodes_l3' (by assumption)
      | with_reducible exact JK_copyNodes (by assumption)
      | with_reducible exact JK_takeNodes_l3' (by assumption)
      | with_reducible exact JK_takeNodes (by assumption)
      | with_reducible exact JK_putClause (by assumption)
      | with_reducible exact JK_join_l264' (by assumption)
      | with_reducible exact JK_join_l350' (by assumption)
      | with_reducible exact JK_join_l518' (by assumption)
      | with_reducible refine pcO_ite (fun _ => ?_) (fun _ => ?_)
      | with_reducible refine pcO_bind (JK_copyNodes_l3' (by assumption)) (fun _ _ => ?_)
      | with_reducible refine pcO_bind (JK_copyNodes (by assumption)) (fun _ _ => ?_)
      | with_reducible refine pcO_bind (JK_takeNodes_l3' (by assumption)) (fun _ _ => ?_)
      | with_reducible refine pcO_bind (JK_takeNodes (by assumption)) (fun _ _ => ?_)
      | with_reducible refine pcO_bind (JK_putClause (by assumption)) (fun _ _ => ?_)
      | with_reducible refine pcO_bind (JK_join_l264' (by assumption)) (fun _ _ => ?_)
      | with_reducible refine pcO_bind (JK_join_l350' (by assumption)) (fun _ _ => ?_)
      | with_reducible refine pcO_bind (JK_join_l518' (by assumption)) (fun _ _ => ?_)
      | with_reducible exact JK_mast (by assumption) (by decide)
      | with_reducible refine pcO_bind (JK_mast (by assumption) (by decide)) (fun _ _ => ?_)
      | with_reducible refine pcO_any (fun _ => ?_)
theorem JK_join_l553' {m0 : Mu} {n : Nat} {v1 : Int} {v2 : Int} {v5 : Int} {m : Mu} (h : JK m0 m) : pcO (m5_join_l553 v1 v2 n v5 m) (JK m0) := JK_join_l553 n v5 m h

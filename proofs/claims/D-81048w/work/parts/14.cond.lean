/-! CONDITIONS: rows of nodes (operator, operand, sign, value) behind their operands, and their truth -/
abbrev Nd : Type := Int × Int × Int × Int
/-- v sign n -/
def hS (sg v n : Int) : Bool := if sg = 0 then decide (v = n) else if sg = 1 then decide (v < n) else if sg = 2 then decide (n < v) else if sg = 3 then decide (v ≤ n) else if sg = 4 then decide (n ≤ v) else decide (v ≠ n)
/-- a node on the pile of truths; vals: the facts' values, mns: the meanings' truths -/
def stepN (vals mns : Nat → Int) (q : Nd) (st : List Bool) : List Bool :=
  if q.1 = 0 then hS q.2.2.1 (vals q.2.1.toNat) q.2.2.2 :: st
  else if q.1 = 1 then decide (mns q.2.1.toNat ≠ 0) :: st
  else match st with
    | [] => []
    | b :: t => if q.1 = 2 then (!b) :: t else match t with
      | [] => []
      | a :: r => (if q.1 = 3 then a && b else a || b) :: r
def runN (vals mns : Nat → Int) : List Nd → List Bool → List Bool
  | [], st => st
  | q :: t, st => runN vals mns t (stepN vals mns q st)
theorem runN_app (vals mns : Nat → Int) (a b : List Nd) : ∀ st, runN vals mns (a ++ b) st = runN vals mns b (runN vals mns a st) := by
  induction a with
  | nil => intro st; rfl
  | cons q t ih => intro st; exact ih _
/-- how high the pile is behind a row -/
def hgt : List Nd → Nat → Option Nat
  | [], h => some h
  | q :: t, h => if q.1 = 0 ∨ q.1 = 1 then hgt t (h + 1) else if q.1 = 2 then (if 1 ≤ h then hgt t h else none) else if 2 ≤ h then hgt t (h - 1) else none
theorem hgt_app (a b : List Nd) : ∀ h, hgt (a ++ b) h = (hgt a h).bind (hgt b) := by
  induction a with
  | nil => intro h; rfl
  | cons q t ih =>
    intro h
    simp only [List.cons_append, hgt]
    split
    · exact ih _
    · split
      · split
        · exact ih _
        · rfl
      · split
        · exact ih _
        · rfl
/-- operators and operands in their bounds: nf facts, nm meanings -/
def okN (nf nm : Int) (q : Nd) : Prop := 0 ≤ q.1 ∧ q.1 ≤ 4 ∧ (q.1 = 0 → 0 ≤ q.2.1 ∧ q.2.1 < nf ∧ 0 ≤ q.2.2.1 ∧ q.2.2.1 ≤ 5 ∧ 0 ≤ q.2.2.2 ∧ q.2.2.2 ≤ 999999999) ∧ (q.1 = 1 → 0 ≤ q.2.1 ∧ q.2.1 < nm)
/-- a row is one condition -/
def isC (ns : List Nd) : Prop := ∀ h, hgt ns h = some (h + 1)
/-- the truth of a row -/
def tru (vals mns : Nat → Int) (ns : List Nd) : Bool := match runN vals mns ns [] with
  | b :: _ => b
  | [] => false
def b2i (b : Bool) : Int := if b then 1 else 0
theorem b2i_0 {b : Bool} : b2i b = 0 ↔ b = false := by cases b <;> simp [b2i]
theorem b2i_1 {b : Bool} : b2i b = 1 ↔ b = true := by cases b <;> simp [b2i]
theorem w32_b2i {b : Bool} : w32 (b2i b) = b2i b := by cases b <;> rfl
/-- below what the row takes, the pile is untouched -/
theorem runN_frame (vals mns : Nat → Int) (ns : List Nd) : ∀ st h, hgt ns st.length = some h → ∀ r, runN vals mns ns (st ++ r) = runN vals mns ns st ++ r ∧ (runN vals mns ns st).length = h := by
  induction ns with
  | nil => intro st h e r; simp only [hgt, Option.some.injEq] at e; exact ⟨rfl, e⟩
  | cons q t ih =>
    intro st h e r
    simp only [hgt] at e
    simp only [runN]
    by_cases h0 : q.1 = 0
    · rw [if_pos (Or.inl h0)] at e
      simp only [stepN, if_pos h0]
      exact ih (_ :: st) h e r
    · by_cases h1 : q.1 = 1
      · rw [if_pos (Or.inr h1)] at e
        simp only [stepN, if_neg h0, if_pos h1]
        exact ih (_ :: st) h e r
      · rw [if_neg (by simp [h0, h1])] at e
        by_cases h2 : q.1 = 2
        · rw [if_pos h2] at e
          cases st with
          | nil => simp at e
          | cons b s =>
            rw [if_pos (by simp)] at e
            simp only [List.cons_append, stepN, if_neg h0, if_neg h1, if_pos h2]
            exact ih ((!b) :: s) h e r
        · rw [if_neg h2] at e
          cases st with
          | nil => simp at e
          | cons b s =>
            cases s with
            | nil => simp at e
            | cons a s =>
              rw [if_pos (by simp)] at e
              simp only [List.cons_append, stepN, if_neg h0, if_neg h1, if_neg h2]
              exact ih (_ :: s) h (by simpa using e) r
theorem isC_run {ns : List Nd} (h : isC ns) (vals mns : Nat → Int) (st : List Bool) : runN vals mns ns st = tru vals mns ns :: st := by
  obtain ⟨e1, e2⟩ := runN_frame vals mns ns [] 1 (h 0) st
  simp only [List.nil_append] at e1
  rw [e1]
  unfold tru
  generalize runN vals mns ns [] = z at *
  match z, e2 with
  | [b], _ => rfl
theorem isC_app_bin {a b : List Nd} {q : Nd} (ha : isC a) (hb : isC b) (hq : q.1 = 3 ∨ q.1 = 4) : isC (a ++ b ++ [q]) := by
  intro h
  rw [hgt_app, hgt_app, ha h]
  simp only [Option.bind_some]
  rw [hb (h + 1)]
  simp only [Option.bind_some, hgt]
  rw [if_neg (by omega), if_neg (by omega), if_pos (by omega)]
  rfl
theorem isC_app_not {a : List Nd} {q : Nd} (ha : isC a) (hq : q.1 = 2) : isC (a ++ [q]) := by
  intro h
  rw [hgt_app, ha h]
  simp only [Option.bind_some, hgt]
  rw [if_neg (by omega), if_pos hq, if_pos (by omega)]
theorem isC_leaf {q : Nd} (hq : q.1 = 0 ∨ q.1 = 1) : isC [q] := by
  intro h
  simp only [hgt]
  rw [if_pos hq]
theorem tru_bin {a b : List Nd} {q : Nd} (ha : isC a) (hb : isC b) (hq : q.1 = 3 ∨ q.1 = 4) (vals mns : Nat → Int) : tru vals mns (a ++ b ++ [q]) = if q.1 = 3 then tru vals mns a && tru vals mns b else tru vals mns a || tru vals mns b := by
  have e : runN vals mns (a ++ b ++ [q]) [] = [if q.1 = 3 then tru vals mns a && tru vals mns b else tru vals mns a || tru vals mns b] := by
    rw [runN_app, runN_app, isC_run ha, isC_run hb]
    simp only [runN, stepN]
    rw [if_neg (by omega), if_neg (by omega), if_neg (by omega)]
  conv => lhs; unfold tru
  rw [e]
theorem tru_not {a : List Nd} {q : Nd} (ha : isC a) (hq : q.1 = 2) (vals mns : Nat → Int) : tru vals mns (a ++ [q]) = !tru vals mns a := by
  have e : runN vals mns (a ++ [q]) [] = [!tru vals mns a] := by
    rw [runN_app, isC_run ha]
    simp only [runN, stepN]
    rw [if_neg (by omega), if_neg (by omega), if_pos hq]
  conv => lhs; unfold tru
  rw [e]

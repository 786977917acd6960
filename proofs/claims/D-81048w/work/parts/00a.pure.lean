/-! the pure definitions that both layers stand on -/
def w32 (x : Int) : Int := (x + 2147483648) % 4294967296 - 2147483648
def w64 (x : Int) : Int := (x + 9223372036854775808) % 18446744073709551616 - 9223372036854775808
def w8 (x : Int) : Int := (x + 128) % 256 - 128
abbrev jI (x : Int) : Int32 := Int32.ofInt x
abbrev jL (x : Int) : Int64 := Int64.ofInt x
theorem toInt_I (x : Int) : (jI x).toInt = w32 x := by
  rw [Int32.toInt_ofInt]; unfold w32 Int.bmod; simp only [Int32.size]; split <;> omega
theorem toInt_L (x : Int) : (jL x).toInt = w64 x := by
  rw [Int64.toInt_ofInt]; unfold w64 Int.bmod; simp only [Int64.size]; split <;> omega
theorem w32_I (x : Int) : jI (w32 x) = jI x := by
  rw [← toInt_I]; exact Int32.ofInt_toInt _
theorem w64_L (x : Int) : jL (w64 x) = jL x := by
  rw [← toInt_L]; exact Int64.ofInt_toInt _
theorem w32_id {x : Int} (h1 : -2147483648 ≤ x) (h2 : x < 2147483648) : w32 x = x := by unfold w32; omega
theorem w64_id {x : Int} (h1 : -9223372036854775808 ≤ x) (h2 : x < 9223372036854775808) : w64 x = x := by unfold w64; omega
theorem w32_lo (x : Int) : -2147483648 ≤ w32 x := by unfold w32; omega
theorem w32_hi (x : Int) : w32 x < 2147483648 := by unfold w32; omega
theorem w64_lo (x : Int) : -9223372036854775808 ≤ w64 x := by unfold w64; omega
theorem w64_hi (x : Int) : w64 x < 9223372036854775808 := by unfold w64; omega
theorem w32_w32 (x : Int) : w32 (w32 x) = w32 x := w32_id (w32_lo x) (w32_hi x)
theorem w64_w64 (x : Int) : w64 (w64 x) = w64 x := w64_id (w64_lo x) (w64_hi x)
theorem w64_w32 (x : Int) : w64 (w32 x) = w32 x := w64_id (by have := w32_lo x; omega) (by have := w32_hi x; omega)
theorem w32_w64 (x : Int) : w32 (w64 x) = w32 x := by unfold w32 w64; omega
theorem I_eq {x y : Int} : jI x = jI y ↔ w32 x = w32 y := by rw [← toInt_I, ← toInt_I]; exact Int32.toInt_inj.symm
theorem I_lt {x y : Int} : jI x < jI y ↔ w32 x < w32 y := by rw [← toInt_I, ← toInt_I]; exact Int32.lt_iff_toInt_lt
theorem I_le {x y : Int} : jI x ≤ jI y ↔ w32 x ≤ w32 y := by rw [← toInt_I, ← toInt_I]; exact Int32.le_iff_toInt_le
theorem L_eq {x y : Int} : jL x = jL y ↔ w64 x = w64 y := by rw [← toInt_L, ← toInt_L]; exact Int64.toInt_inj.symm
theorem L_lt {x y : Int} : jL x < jL y ↔ w64 x < w64 y := by rw [← toInt_L, ← toInt_L]; exact Int64.lt_iff_toInt_lt
theorem L_le {x y : Int} : jL x ≤ jL y ↔ w64 x ≤ w64 y := by rw [← toInt_L, ← toInt_L]; exact Int64.le_iff_toInt_le
theorem I_0 : jI 0 = 0 := rfl
theorem I_i2l (x : Int) : (jI x).toInt64 = jL (w32 x) := by
  apply Int64.toInt_inj.mp; rw [Int32.toInt_toInt64, toInt_I, toInt_L, w64_w32]
theorem L_l2i (x : Int) : (jL x).toInt32 = jI x := Int64.toInt32_ofInt
theorem I_i2b (x : Int) : (jI x).toInt8.toInt32 = jI (w8 x) := by
  apply Int32.toInt_inj.mp
  rw [Int8.toInt_toInt32, Int32.toInt8_ofInt, Int8.toInt_ofInt, toInt_I]
  unfold w32 w8 Int.bmod; simp only [Int8.size]; split <;> omega
/-- division and remainder, rounded towards zero -/
def div32 (x y : Int) : Int := (w32 x).tdiv (w32 y)
def rem32 (x y : Int) : Int := (w32 x).tmod (w32 y)
def div64 (x y : Int) : Int := (w64 x).tdiv (w64 y)
def rem64 (x y : Int) : Int := (w64 x).tmod (w64 y)
theorem w32_bmod (x : Int) : x.bmod (2 ^ 32) = w32 x := by
  rw [← toInt_I, Int32.toInt_ofInt]
theorem w64_bmod (x : Int) : x.bmod (2 ^ 64) = w64 x := by
  rw [← toInt_L, Int64.toInt_ofInt]
theorem I_div (x y : Int) : jI x / jI y = jI (div32 x y) := by
  apply Int32.toInt_inj.mp; rw [Int32.toInt_div, toInt_I, toInt_I, toInt_I, w32_bmod]; rfl
theorem L_div (x y : Int) : jL x / jL y = jL (div64 x y) := by
  apply Int64.toInt_inj.mp; rw [Int64.toInt_div, toInt_L, toInt_L, toInt_L, w64_bmod]; rfl
theorem I_rem (x y : Int) : jI x - jI x / jI y * jI y = jI (rem32 x y) := by
  rw [← w32_I x, ← w32_I y, I_div, ← Int32.ofInt_mul, ← Int32.ofInt_sub]
  unfold rem32 div32
  rw [w32_w32, w32_w32, Int.tmod_def, Int.mul_comm]
theorem L_rem (x y : Int) : jL x - jL x / jL y * jL y = jL (rem64 x y) := by
  rw [← w64_L x, ← w64_L y, L_div, ← Int64.ofInt_mul, ← Int64.ofInt_sub]
  unfold rem64 div64
  rw [w64_w64, w64_w64, Int.tmod_def, Int.mul_comm]
/-- bits -/
def and32 (x y : Int) : Int := (jI x &&& jI y).toInt
def or32 (x y : Int) : Int := (jI x ||| jI y).toInt
def xor32 (x y : Int) : Int := (jI x ^^^ jI y).toInt
def shl32 (x y : Int) : Int := (jI x <<< (jI y &&& 31)).toInt
def shr32 (x y : Int) : Int := (jI x >>> (jI y &&& 31)).toInt
def ushr32 (x y : Int) : Int := ((jI x).toUInt32 >>> ((jI y).toUInt32 &&& Int32.toUInt32 31)).toInt32.toInt
def and64 (x y : Int) : Int := (jL x &&& jL y).toInt
def or64 (x y : Int) : Int := (jL x ||| jL y).toInt
def shl64 (x y : Int) : Int := (jL x <<< ((jI y).toInt64 &&& 63)).toInt
def shr64 (x y : Int) : Int := (jL x >>> ((jI y).toInt64 &&& 63)).toInt
def ushr64 (x y : Int) : Int := ((jL x).toUInt64 >>> ((jI y).toInt64.toUInt64 &&& Int64.toUInt64 63)).toInt64.toInt
def chr16 (x : Int) : Int := (((jI x).toUInt32 % 65536).toInt32).toInt
def cmp64 (x y : Int) : Int := if w64 y < w64 x then 1 else if w64 x = w64 y then 0 else -1
theorem L_cmp (x y : Int) : lg_cmp (jL x) (jL y) = jI (cmp64 x y) := by
  unfold lg_cmp cmp64
  by_cases h : w64 y < w64 x
  · rw [if_pos (L_lt.mpr h), if_pos h]; rfl
  · rw [if_neg (fun q => h (L_lt.mp q)), if_neg h]
    by_cases h2 : w64 x = w64 y
    · rw [if_pos (L_eq.mpr h2), if_pos h2]; rfl
    · rw [if_neg (fun q => h2 (L_eq.mp q)), if_neg h2]; rfl

/-- what a boolean array takes of an int -/
def nz (x : Int) : Int := (vp_nar .boolean (jI x)).toInt
/-- the loops' fuel -/
noncomputable def NN : Nat := Classical.choose (⟨100000, Nat.le_refl _⟩ : ∃ n : Nat, 100000 ≤ n)
theorem NN_ge : 100000 ≤ NN := Classical.choose_spec (⟨100000, Nat.le_refl _⟩ : ∃ n : Nat, 100000 ≤ n)

abbrev Sg : Type := (Nat → Nat) × (Nat → Nat) × (Nat → Nat → Int) × (Nat → Nat → Option Nat) × (Nat → Nat → Int) × (Nat → Nat → Option Nat) × Nat
def zT (s : Sg) : Nat → Nat := s.1
def zL (s : Sg) : Nat → Nat := s.2.1
def zI (s : Sg) : Nat → Nat → Int := s.2.2.1
def zR (s : Sg) : Nat → Nat → Option Nat := s.2.2.2.1
def zA (s : Sg) : Nat → Nat → Int := s.2.2.2.2.1
def zB (s : Sg) : Nat → Nat → Option Nat := s.2.2.2.2.2.1
def zN (s : Sg) : Nat := s.2.2.2.2.2.2
def up2 {α : Type} (f : Nat → Nat → α) (a k : Nat) (v : α) : Nat → Nat → α := fun b j => if b = a ∧ j = k then v else f b j
def zsI (s : Sg) (a g : Nat) (v : Int) : Sg := (zT s, zL s, up2 (zI s) a g v, zR s, zA s, zB s, zN s)
def zsR (s : Sg) (a g : Nat) (v : Option Nat) : Sg := (zT s, zL s, zI s, up2 (zR s) a g v, zA s, zB s, zN s)
def zsA (s : Sg) (a j : Nat) (v : Int) : Sg := (zT s, zL s, zI s, zR s, up2 (zA s) a j v, zB s, zN s)
def zsB (s : Sg) (a j : Nat) (v : Option Nat) : Sg := (zT s, zL s, zI s, zR s, zA s, up2 (zB s) a j v, zN s)
/-- a new cell: tag t, length n, all zero -/
def znew (s : Sg) (t n : Nat) : Sg := (va_up (zT s) (zN s) t, va_up (zL s) (zN s) n, va_up (zI s) (zN s) (fun _ => 0), va_up (zR s) (zN s) (fun _ => none), va_up (zA s) (zN s) (fun _ => 0), va_up (zB s) (zN s) (fun _ => none), zN s + 1)
/-- classes, slots, array classes, where writing begins, the statics' values -/
abbrev CG : Type := (Nat → ClassId) × (Nat → Nat → Nat) × (Nat → ClassId) × Nat × (Nat → Option Nat)
def gfI (s : Sg) (t g : Nat) (r : Option Nat) : Option Int := r.bind fun a => if zT s a = t then some (zI s a g) else none
def gfR (s : Sg) (t g : Nat) (r : Option Nat) : Option (Option Nat) := r.bind fun a => if zT s a = t then some (zR s a g) else none
def pfI (G0 : Nat) (s : Sg) (t g : Nat) (r : Option Nat) (v : Int) : Option Sg := r.bind fun a => if zT s a = t ∧ G0 ≤ a then some (zsI s a g v) else none
def pfR (G0 : Nat) (s : Sg) (t g : Nat) (r : Option Nat) (v : Option Nat) : Option Sg := r.bind fun a => if zT s a = t ∧ G0 ≤ a then some (zsR s a g v) else none
def alI (s : Sg) (t : Nat) (r : Option Nat) (i : Int) : Option Int := r.bind fun a => if zT s a = 100 + t ∧ 0 ≤ w32 i ∧ w32 i < zL s a then some (zA s a (w32 i).toNat) else none
def alR (s : Sg) (t : Nat) (r : Option Nat) (i : Int) : Option (Option Nat) := r.bind fun a => if zT s a = 100 + t ∧ 0 ≤ w32 i ∧ w32 i < zL s a then some (zB s a (w32 i).toNat) else none
def asI (G0 : Nat) (s : Sg) (t : Nat) (r : Option Nat) (i v : Int) : Option Sg := r.bind fun a => if (zT s a = 100 + t ∧ G0 ≤ a) ∧ 0 ≤ w32 i ∧ w32 i < zL s a then some (zsA s a (w32 i).toNat v) else none
def alen (s : Sg) (t : Nat) (r : Option Nat) : Option Int := r.bind fun a => if zT s a = 100 + t then some (zL s a) else none
def zcast (s : Sg) (ts : List Nat) (r : Option Nat) : Option Unit := match r with
  | none => some ()
  | some a => if zT s a ∈ ts then some () else none
def ztg (s : Sg) (t : Nat) (r : Option Nat) : Option Nat := r.bind fun a => if zT s a = t then some a else none
def bdU {α β : Type} (x : Option (α × Nat × Nat)) (k : α → Option (β × Nat × Nat)) : Option (β × Nat × Nat) := x.bind fun q => (k q.1).map fun r => (r.1, r.2.1 + q.2.1, r.2.2 + q.2.2)
/-- a new object: its address, the heap, one cell of N slots -/
def zNew (s : Sg) (t N : Nat) : Option ((Nat × Sg) × Nat × Nat) := some ((zN s, znew s t 0), 1, N)
def zNewA (s : Sg) (t : Nat) (i : Int) : Option ((Nat × Sg) × Nat × Nat) := if 0 ≤ w32 i ∧ w32 i ≤ 1000000 then some ((zN s, znew s (100 + t) (w32 i).toNat), 1, (w32 i).toNat) else none
def OT : List Nat := [1, 2, 3, 4, 5, 6, 7, 8, 9, 10, 12, 13, 14, 15, 16, 17, 18, 19, 20, 21, 22, 29]
def asR (G0 : Nat) (s : Sg) (r : Option Nat) (i : Int) (v : Option Nat) : Option Sg := (zcast s OT v).bind fun _ => r.bind fun a => if (zT s a = 105 ∧ G0 ≤ a) ∧ 0 ≤ w32 i ∧ w32 i < zL s a then some (zsB s a (w32 i).toNat v) else none
def mx32 (x y : Int) : Int := if w32 x < w32 y then y else x
def mn32 (x y : Int) : Int := if w32 y < w32 x then y else x
def mx64 (x y : Int) : Int := if w64 y < w64 x then x else y
def mn64 (x y : Int) : Int := if w64 y < w64 x then y else x
def zsC (s : Sg) (a : Nat) (f : Nat → Option Nat) : Sg := (zT s, zL s, zI s, zR s, zA s, va_up (zB s) a f, zN s)
def zcpy (G0 : Nat) (s : Sg) (r0 : Option Nat) (sp : Int) (r1 : Option Nat) (dp n : Int) : Option Sg := r0.bind fun a0 => r1.bind fun a1 => if (zT s a0 = 105 ∧ zT s a1 = 105 ∧ G0 ≤ a1) ∧ (0 ≤ w32 sp ∧ 0 ≤ w32 dp ∧ 0 ≤ w32 n) ∧ (w32 sp + w32 n ≤ zL s a0 ∧ w32 dp + w32 n ≤ zL s a1) ∧ (∀ i, i < (w32 n).toNat → zcast s OT (zB s a0 ((w32 sp).toNat + i)) = some ()) then some (zsC s a1 (va_cpy (zB s a0) (zB s a1) (w32 sp).toNat (w32 dp).toNat (w32 n).toNat)) else none
def zNewQ (s : Sg) (i : Int) : Option ((Nat × Sg) × Nat × Nat) := if 0 ≤ w32 i ∧ w32 i ≤ 1000000 then some ((zN s, znew s 105 (w32 i).toNat), 1, (w32 i).toNat) else none
/-- getClass(): of an Object[], of an ArrayList -/
def zcls (G : CG) (s : Sg) (r : Option Nat) : Option (Option Nat) := r.bind fun a => if zT s a = 105 then some (G.2.2.2.2 21) else if zT s a = 6 then some (G.2.2.2.2 22) else none
/-- what such a method answers -/
def hvC : ClassFile.Cond → Int → Int → Int
  | .eq, x, y => if w32 x = w32 y then 0 else 1
  | .ne, x, y => if w32 x = w32 y then 1 else 0
  | .lt, x, y => if w32 x < w32 y then 0 else 1
  | .ge, x, y => if w32 y ≤ w32 x then 0 else 1
  | .gt, x, y => if w32 y < w32 x then 0 else 1
  | .le, x, y => if w32 x ≤ w32 y then 0 else 1
def tel {α β : Type} (o : Nat ⊕ α) (f : Nat → β) (g : α → β) : β := Sum.elim f g o
/-- e goes out of the method -/
def xth {α : Type} (e : Nat) (u : Sg) : Option (((Nat ⊕ α) × Sg) × Nat × Nat) := if zT u e = 9 then some ((.inl e, u), 0, 0) else none
/-- what RuntimeException.<init>() makes of a Fault -/
def fltI (G : CG) (u : Sg) (b : Nat) : Option Sg := if zT u b = 9 ∧ G.2.2.2.1 ≤ b ∧ zR u b 324 = none then some (zsR (zsR (zsR u b 320 (some b)) b 321 (G.2.2.2.2 9)) b 322 (G.2.2.2.2 10)) else none
def DD : Nat := 400
abbrev RC7 : Type := Nat → Option Nat → Int → Sg → Option (((Nat ⊕ Option Nat) × Sg) × Nat × Nat)
abbrev Mu : Type := (Nat → Int) × (Nat → Nat → Int)
/-- a scalar is set -/
def ms (u : Mu) (k : Nat) (v : Int) : Mu := (va_up u.1 k v, u.2)
/-- a place of an array is set -/
def ma (u : Mu) (k : Nat) (i : Nat) (v : Int) : Mu := (u.1, va_up u.2 k (va_up (u.2 k) i v))
def mald (u : Mu) (k : Nat) (n : Nat) (i : Int) : Option Int := if 0 ≤ w32 i ∧ w32 i < n then some (u.2 k (w32 i).toNat) else none
def mast (u : Mu) (k : Nat) (n : Nat) (i v : Int) : Option Mu := if 0 ≤ w32 i ∧ w32 i < n then some (ma u k (w32 i).toNat v) else none

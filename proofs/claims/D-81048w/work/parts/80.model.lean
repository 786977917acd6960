/-! THE WORLD OF CoverHouseModel: scalars and arrays by field number -/
def mlen : Nat → Nat := fun k => match k with
  | 0 => 30
  | 1 => 4000
  | 12 => 14
  | 13 => 112
  | 14 => 112
  | 15 => 112
  | 16 => 672
  | 17 => 112
  | 18 => 112
  | 19 => 14
  | 20 => 168
  | 21 => 168
  | 22 => 168
  | 23 => 14
  | 24 => 336
  | 25 => 336
  | 26 => 336
  | 27 => 14
  | 28 => 336
  | 29 => 336
  | 30 => 336
  | 31 => 336
  | 32 => 70
  | 33 => 14
  | 34 => 33600
  | 35 => 33600
  | 36 => 33600
  | 37 => 33600
  | 38 => 68096
  | 39 => 112
  | 40 => 14
  | 41 => 28000
  | 42 => 4100
  | 43 => 4100
  | 44 => 4100
  | 45 => 4100
  | 48 => 4100
  | 53 => 1400
  | 54 => 1400
  | 55 => 1400
  | 57 => 24
  | 58 => 1400
  | 59 => 8
  | 60 => 4100
  | 61 => 12
  | 63 => 16000
  | 64 => 8
  | 66 => 16
  | 67 => 2
  | 69 => 8
  | 72 => 33
  | 73 => 1584
  | 74 => 1584
  | 75 => 264
  | 76 => 8
  | 77 => 8
  | 78 => 2
  | 79 => 2000
  | 80 => 8
  | 82 => 13
  | 83 => 312
  | 84 => 312
  | 85 => 312
  | 86 => 312
  | 88 => 41
  | 89 => 41
  | 90 => 41
  | 91 => 41
  | 92 => 41
  | 93 => 246
  | 94 => 246
  | 95 => 41
  | 96 => 41
  | 98 => 6
  | 99 => 6
  | 100 => 6
  | 103 => 400
  | 104 => 400
  | 105 => 400
  | 106 => 400
  | 107 => 41
  | 108 => 41
  | 109 => 401
  | 110 => 5
  | 112 => 1601
  | 113 => 1601
  | 114 => 1601
  | _ => 0
def kT : State → Prop := fun _ => True
theorem kT_v : jKv kT := ⟨fun _ _ _ _ => trivial, fun _ _ _ _ => trivial⟩
/-- the object, its arrays' addresses, its class, its slots, the array classes by kind (1 int, 2 byte, 3 boolean, 4 long) -/
abbrev MG : Type := Nat × (Nat → Nat) × ClassId × (Nat → Nat) × (Nat → ClassId)
def mkd (t : FieldType) : Nat := match t with
  | .array .int => 1
  | .array .byte => 2
  | .array .boolean => 3
  | .array .long => 4
  | _ => 0
def mty : Nat → FieldType := fun k => match k with
  | 1 => .int
  | 2 => .byte
  | 3 => .boolean
  | _ => .long
def mV (G : MG) (u : Mu) (k : Nat) : Value := match tyX5 k with
  | .int => .int (jI (u.1 k))
  | .boolean => .int (jI (u.1 k))
  | .long => .long (jL (u.1 k))
  | _ => .ref (G.2.1 k)
def mC (G : MG) (u : Mu) (k : Nat) : Cell := arrV (G.2.2.2.2 (mkd (tyX5 k))) (mlen k) (fun j => if mkd (tyX5 k) = 4 then .long (jL (u.2 k j)) else .int (jI (u.2 k j)))
def mKn (G : MG) (s : State) : Prop := u_Kn s RX5 TX5 116 G.2.2.1 G.2.2.2.1 ∧ ∀ t, 1 ≤ t → t ≤ 4 → ArrOfT s (G.2.2.2.2 t) (mty t)
def mIs (k : Nat) : Prop := k < 116 ∧ mkd (tyX5 k) ≠ 0
def bM (G : MG) (u : Mu) (s : State) (H : Heap) : Prop := mKn G s ∧ t_OB G.1 G.2.2.1 116 G.2.2.2.1 H (mV G u) ∧ (∀ k, mIs k → H[G.2.1 k]? = some (mC G u k)) ∧ ∀ k, mIs k → G.2.1 k ≠ G.1 ∧ ∀ j, mIs j → G.2.1 j = G.2.1 k → j = k
def aM (G : MG) (q : Nat) : Prop := q = G.1 ∨ ∃ k, mIs k ∧ q = G.2.1 k
theorem bM_mv (G : MG) : jMv (bM G) := fun w u U H hvm h => ⟨⟨u_Kn_moved hvm h.1.1, fun t h1 h2 => arrOfT_moved hvm (h.1.2 t h1 h2)⟩, h.2⟩
def inb (n : Int) (i : Int) : Prop := 0 ≤ w32 i ∧ w32 i < n
theorem mald_some {u : Mu} {k n : Nat} {i v : Int} (h : mald u k n i = some v) : (0 ≤ w32 i ∧ w32 i < n) ∧ u.2 k (w32 i).toNat = v := by
  unfold mald at h
  by_cases hc : 0 ≤ w32 i ∧ w32 i < n
  · rw [if_pos hc] at h; exact ⟨hc, Option.some.inj h⟩
  · rw [if_neg hc] at h; cases h
theorem mast_some {u u1 : Mu} {k n : Nat} {i v : Int} (h : mast u k n i v = some u1) : (0 ≤ w32 i ∧ w32 i < n) ∧ ma u k (w32 i).toNat v = u1 := by
  unfold mast at h
  by_cases hc : 0 ≤ w32 i ∧ w32 i < n
  · rw [if_pos hc] at h; exact ⟨hc, Option.some.inj h⟩
  · rw [if_neg hc] at h; cases h
/-- field k of the class: its link's entry, its type -/
def mF (k idx : Nat) (ty : FieldType) : Prop := k < 116 ∧ Cond.fieldLink RX5 idx RX5 (TX5 k).2.1 (TX5 k).2.2.1 ∈ lw_all ∧ tyX5 k = ty ∧ parseFieldDescriptor (TX5 k).2.2.1 = some ty ∧ (TX5 k).1 = RX5
def mFw (k : Nat) : Prop := (TX5 k).2.2.2 = false
/-- array field k: its kind and length -/
def mR (k t n : Nat) : Prop := mIs k ∧ mkd (tyX5 k) = t ∧ mlen k = n ∧ 1 ≤ t ∧ t ≤ 4
theorem mf_0 : mF 0 7 (.array .long) := ⟨Nat.le_of_ble_eq_true rfl, q1835, rfl, tyX5_ok 0 (Nat.le_of_ble_eq_true rfl), rfl⟩
theorem mr_0 : mR 0 4 30 := ⟨⟨Nat.le_of_ble_eq_true rfl, by decide⟩, rfl, rfl, by decide, by decide⟩
theorem mf_1 : mF 1 13 (.array .byte) := ⟨Nat.le_of_ble_eq_true rfl, q1836, rfl, tyX5_ok 1 (Nat.le_of_ble_eq_true rfl), rfl⟩
theorem mr_1 : mR 1 2 4000 := ⟨⟨Nat.le_of_ble_eq_true rfl, by decide⟩, rfl, rfl, by decide, by decide⟩
theorem mf_2 : mF 2 294 (.int) := ⟨Nat.le_of_ble_eq_true rfl, q1837, rfl, tyX5_ok 2 (Nat.le_of_ble_eq_true rfl), rfl⟩
theorem mfw_2 : mFw 2 := rfl
theorem mf_3 : mF 3 297 (.int) := ⟨Nat.le_of_ble_eq_true rfl, q1838, rfl, tyX5_ok 3 (Nat.le_of_ble_eq_true rfl), rfl⟩
theorem mfw_3 : mFw 3 := rfl
theorem mf_4 : mF 4 307 (.int) := ⟨Nat.le_of_ble_eq_true rfl, q1839, rfl, tyX5_ok 4 (Nat.le_of_ble_eq_true rfl), rfl⟩
theorem mfw_4 : mFw 4 := rfl
theorem mf_5 : mF 5 304 (.int) := ⟨Nat.le_of_ble_eq_true rfl, q1840, rfl, tyX5_ok 5 (Nat.le_of_ble_eq_true rfl), rfl⟩
theorem mfw_5 : mFw 5 := rfl
theorem mf_6 : mF 6 327 (.long) := ⟨Nat.le_of_ble_eq_true rfl, q1841, rfl, tyX5_ok 6 (Nat.le_of_ble_eq_true rfl), rfl⟩
theorem mfw_6 : mFw 6 := rfl
theorem mf_7 : mF 7 331 (.int) := ⟨Nat.le_of_ble_eq_true rfl, q1842, rfl, tyX5_ok 7 (Nat.le_of_ble_eq_true rfl), rfl⟩
theorem mfw_7 : mFw 7 := rfl
theorem mf_8 : mF 8 334 (.int) := ⟨Nat.le_of_ble_eq_true rfl, q1843, rfl, tyX5_ok 8 (Nat.le_of_ble_eq_true rfl), rfl⟩
theorem mfw_8 : mFw 8 := rfl
theorem mf_9 : mF 9 337 (.int) := ⟨Nat.le_of_ble_eq_true rfl, q1844, rfl, tyX5_ok 9 (Nat.le_of_ble_eq_true rfl), rfl⟩
theorem mfw_9 : mFw 9 := rfl
theorem mf_10 : mF 10 17 (.int) := ⟨Nat.le_of_ble_eq_true rfl, q1845, rfl, tyX5_ok 10 (Nat.le_of_ble_eq_true rfl), rfl⟩
theorem mfw_10 : mFw 10 := rfl
theorem mf_11 : mF 11 450 (.int) := ⟨Nat.le_of_ble_eq_true rfl, q1846, rfl, tyX5_ok 11 (Nat.le_of_ble_eq_true rfl), rfl⟩
theorem mfw_11 : mFw 11 := rfl
theorem mf_12 : mF 12 21 (.array .int) := ⟨Nat.le_of_ble_eq_true rfl, q1847, rfl, tyX5_ok 12 (Nat.le_of_ble_eq_true rfl), rfl⟩
theorem mr_12 : mR 12 1 14 := ⟨⟨Nat.le_of_ble_eq_true rfl, by decide⟩, rfl, rfl, by decide, by decide⟩
theorem mf_13 : mF 13 25 (.array .long) := ⟨Nat.le_of_ble_eq_true rfl, q1848, rfl, tyX5_ok 13 (Nat.le_of_ble_eq_true rfl), rfl⟩
theorem mr_13 : mR 13 4 112 := ⟨⟨Nat.le_of_ble_eq_true rfl, by decide⟩, rfl, rfl, by decide, by decide⟩
theorem mf_14 : mF 14 28 (.array .int) := ⟨Nat.le_of_ble_eq_true rfl, q1849, rfl, tyX5_ok 14 (Nat.le_of_ble_eq_true rfl), rfl⟩
theorem mr_14 : mR 14 1 112 := ⟨⟨Nat.le_of_ble_eq_true rfl, by decide⟩, rfl, rfl, by decide, by decide⟩
theorem mf_15 : mF 15 31 (.array .int) := ⟨Nat.le_of_ble_eq_true rfl, q1850, rfl, tyX5_ok 15 (Nat.le_of_ble_eq_true rfl), rfl⟩
theorem mr_15 : mR 15 1 112 := ⟨⟨Nat.le_of_ble_eq_true rfl, by decide⟩, rfl, rfl, by decide, by decide⟩
theorem mf_16 : mF 16 34 (.array .long) := ⟨Nat.le_of_ble_eq_true rfl, q1851, rfl, tyX5_ok 16 (Nat.le_of_ble_eq_true rfl), rfl⟩
theorem mr_16 : mR 16 4 672 := ⟨⟨Nat.le_of_ble_eq_true rfl, by decide⟩, rfl, rfl, by decide, by decide⟩
theorem mf_17 : mF 17 37 (.array .int) := ⟨Nat.le_of_ble_eq_true rfl, q1852, rfl, tyX5_ok 17 (Nat.le_of_ble_eq_true rfl), rfl⟩
theorem mr_17 : mR 17 1 112 := ⟨⟨Nat.le_of_ble_eq_true rfl, by decide⟩, rfl, rfl, by decide, by decide⟩
theorem mf_18 : mF 18 40 (.array .int) := ⟨Nat.le_of_ble_eq_true rfl, q1853, rfl, tyX5_ok 18 (Nat.le_of_ble_eq_true rfl), rfl⟩
theorem mr_18 : mR 18 1 112 := ⟨⟨Nat.le_of_ble_eq_true rfl, by decide⟩, rfl, rfl, by decide, by decide⟩
theorem mf_19 : mF 19 43 (.array .int) := ⟨Nat.le_of_ble_eq_true rfl, q1854, rfl, tyX5_ok 19 (Nat.le_of_ble_eq_true rfl), rfl⟩
theorem mr_19 : mR 19 1 14 := ⟨⟨Nat.le_of_ble_eq_true rfl, by decide⟩, rfl, rfl, by decide, by decide⟩
theorem mf_20 : mF 20 46 (.array .long) := ⟨Nat.le_of_ble_eq_true rfl, q1855, rfl, tyX5_ok 20 (Nat.le_of_ble_eq_true rfl), rfl⟩
theorem mr_20 : mR 20 4 168 := ⟨⟨Nat.le_of_ble_eq_true rfl, by decide⟩, rfl, rfl, by decide, by decide⟩
theorem mf_21 : mF 21 49 (.array .int) := ⟨Nat.le_of_ble_eq_true rfl, q1856, rfl, tyX5_ok 21 (Nat.le_of_ble_eq_true rfl), rfl⟩
theorem mr_21 : mR 21 1 168 := ⟨⟨Nat.le_of_ble_eq_true rfl, by decide⟩, rfl, rfl, by decide, by decide⟩
theorem mf_22 : mF 22 52 (.array .int) := ⟨Nat.le_of_ble_eq_true rfl, q1857, rfl, tyX5_ok 22 (Nat.le_of_ble_eq_true rfl), rfl⟩
theorem mr_22 : mR 22 1 168 := ⟨⟨Nat.le_of_ble_eq_true rfl, by decide⟩, rfl, rfl, by decide, by decide⟩
theorem mf_23 : mF 23 55 (.array .int) := ⟨Nat.le_of_ble_eq_true rfl, q1858, rfl, tyX5_ok 23 (Nat.le_of_ble_eq_true rfl), rfl⟩
theorem mr_23 : mR 23 1 14 := ⟨⟨Nat.le_of_ble_eq_true rfl, by decide⟩, rfl, rfl, by decide, by decide⟩
theorem mf_24 : mF 24 58 (.array .int) := ⟨Nat.le_of_ble_eq_true rfl, q1859, rfl, tyX5_ok 24 (Nat.le_of_ble_eq_true rfl), rfl⟩
theorem mr_24 : mR 24 1 336 := ⟨⟨Nat.le_of_ble_eq_true rfl, by decide⟩, rfl, rfl, by decide, by decide⟩
theorem mf_25 : mF 25 61 (.array .int) := ⟨Nat.le_of_ble_eq_true rfl, q1860, rfl, tyX5_ok 25 (Nat.le_of_ble_eq_true rfl), rfl⟩
theorem mr_25 : mR 25 1 336 := ⟨⟨Nat.le_of_ble_eq_true rfl, by decide⟩, rfl, rfl, by decide, by decide⟩
theorem mf_26 : mF 26 64 (.array .int) := ⟨Nat.le_of_ble_eq_true rfl, q1861, rfl, tyX5_ok 26 (Nat.le_of_ble_eq_true rfl), rfl⟩
theorem mr_26 : mR 26 1 336 := ⟨⟨Nat.le_of_ble_eq_true rfl, by decide⟩, rfl, rfl, by decide, by decide⟩
theorem mf_27 : mF 27 67 (.array .int) := ⟨Nat.le_of_ble_eq_true rfl, q1862, rfl, tyX5_ok 27 (Nat.le_of_ble_eq_true rfl), rfl⟩
theorem mr_27 : mR 27 1 14 := ⟨⟨Nat.le_of_ble_eq_true rfl, by decide⟩, rfl, rfl, by decide, by decide⟩
theorem mf_28 : mF 28 70 (.array .int) := ⟨Nat.le_of_ble_eq_true rfl, q1863, rfl, tyX5_ok 28 (Nat.le_of_ble_eq_true rfl), rfl⟩
theorem mr_28 : mR 28 1 336 := ⟨⟨Nat.le_of_ble_eq_true rfl, by decide⟩, rfl, rfl, by decide, by decide⟩
theorem mf_29 : mF 29 73 (.array .int) := ⟨Nat.le_of_ble_eq_true rfl, q1864, rfl, tyX5_ok 29 (Nat.le_of_ble_eq_true rfl), rfl⟩
theorem mr_29 : mR 29 1 336 := ⟨⟨Nat.le_of_ble_eq_true rfl, by decide⟩, rfl, rfl, by decide, by decide⟩
theorem mf_30 : mF 30 76 (.array .int) := ⟨Nat.le_of_ble_eq_true rfl, q1865, rfl, tyX5_ok 30 (Nat.le_of_ble_eq_true rfl), rfl⟩
theorem mr_30 : mR 30 1 336 := ⟨⟨Nat.le_of_ble_eq_true rfl, by decide⟩, rfl, rfl, by decide, by decide⟩
theorem mf_31 : mF 31 79 (.array .int) := ⟨Nat.le_of_ble_eq_true rfl, q1866, rfl, tyX5_ok 31 (Nat.le_of_ble_eq_true rfl), rfl⟩
theorem mr_31 : mR 31 1 336 := ⟨⟨Nat.le_of_ble_eq_true rfl, by decide⟩, rfl, rfl, by decide, by decide⟩
theorem mf_32 : mF 32 82 (.array .int) := ⟨Nat.le_of_ble_eq_true rfl, q1867, rfl, tyX5_ok 32 (Nat.le_of_ble_eq_true rfl), rfl⟩
theorem mr_32 : mR 32 1 70 := ⟨⟨Nat.le_of_ble_eq_true rfl, by decide⟩, rfl, rfl, by decide, by decide⟩
theorem mf_33 : mF 33 85 (.array .int) := ⟨Nat.le_of_ble_eq_true rfl, q1868, rfl, tyX5_ok 33 (Nat.le_of_ble_eq_true rfl), rfl⟩
theorem mr_33 : mR 33 1 14 := ⟨⟨Nat.le_of_ble_eq_true rfl, by decide⟩, rfl, rfl, by decide, by decide⟩
theorem mf_34 : mF 34 89 (.array .byte) := ⟨Nat.le_of_ble_eq_true rfl, q1869, rfl, tyX5_ok 34 (Nat.le_of_ble_eq_true rfl), rfl⟩
theorem mr_34 : mR 34 2 33600 := ⟨⟨Nat.le_of_ble_eq_true rfl, by decide⟩, rfl, rfl, by decide, by decide⟩
theorem mf_35 : mF 35 92 (.array .byte) := ⟨Nat.le_of_ble_eq_true rfl, q1870, rfl, tyX5_ok 35 (Nat.le_of_ble_eq_true rfl), rfl⟩
theorem mr_35 : mR 35 2 33600 := ⟨⟨Nat.le_of_ble_eq_true rfl, by decide⟩, rfl, rfl, by decide, by decide⟩
theorem mf_36 : mF 36 95 (.array .byte) := ⟨Nat.le_of_ble_eq_true rfl, q1871, rfl, tyX5_ok 36 (Nat.le_of_ble_eq_true rfl), rfl⟩
theorem mr_36 : mR 36 2 33600 := ⟨⟨Nat.le_of_ble_eq_true rfl, by decide⟩, rfl, rfl, by decide, by decide⟩
theorem mf_37 : mF 37 98 (.array .int) := ⟨Nat.le_of_ble_eq_true rfl, q1872, rfl, tyX5_ok 37 (Nat.le_of_ble_eq_true rfl), rfl⟩
theorem mr_37 : mR 37 1 33600 := ⟨⟨Nat.le_of_ble_eq_true rfl, by decide⟩, rfl, rfl, by decide, by decide⟩
theorem mf_38 : mF 38 102 (.array .int) := ⟨Nat.le_of_ble_eq_true rfl, q1873, rfl, tyX5_ok 38 (Nat.le_of_ble_eq_true rfl), rfl⟩
theorem mr_38 : mR 38 1 68096 := ⟨⟨Nat.le_of_ble_eq_true rfl, by decide⟩, rfl, rfl, by decide, by decide⟩
theorem mf_39 : mF 39 105 (.array .int) := ⟨Nat.le_of_ble_eq_true rfl, q1874, rfl, tyX5_ok 39 (Nat.le_of_ble_eq_true rfl), rfl⟩
theorem mr_39 : mR 39 1 112 := ⟨⟨Nat.le_of_ble_eq_true rfl, by decide⟩, rfl, rfl, by decide, by decide⟩
theorem mf_40 : mF 40 108 (.array .int) := ⟨Nat.le_of_ble_eq_true rfl, q1875, rfl, tyX5_ok 40 (Nat.le_of_ble_eq_true rfl), rfl⟩
theorem mr_40 : mR 40 1 14 := ⟨⟨Nat.le_of_ble_eq_true rfl, by decide⟩, rfl, rfl, by decide, by decide⟩
theorem mf_41 : mF 41 111 (.array .boolean) := ⟨Nat.le_of_ble_eq_true rfl, q1876, rfl, tyX5_ok 41 (Nat.le_of_ble_eq_true rfl), rfl⟩
theorem mr_41 : mR 41 3 28000 := ⟨⟨Nat.le_of_ble_eq_true rfl, by decide⟩, rfl, rfl, by decide, by decide⟩
theorem mf_42 : mF 42 115 (.array .byte) := ⟨Nat.le_of_ble_eq_true rfl, q1877, rfl, tyX5_ok 42 (Nat.le_of_ble_eq_true rfl), rfl⟩
theorem mr_42 : mR 42 2 4100 := ⟨⟨Nat.le_of_ble_eq_true rfl, by decide⟩, rfl, rfl, by decide, by decide⟩
theorem mf_43 : mF 43 118 (.array .byte) := ⟨Nat.le_of_ble_eq_true rfl, q1878, rfl, tyX5_ok 43 (Nat.le_of_ble_eq_true rfl), rfl⟩
theorem mr_43 : mR 43 2 4100 := ⟨⟨Nat.le_of_ble_eq_true rfl, by decide⟩, rfl, rfl, by decide, by decide⟩
theorem mf_44 : mF 44 121 (.array .byte) := ⟨Nat.le_of_ble_eq_true rfl, q1879, rfl, tyX5_ok 44 (Nat.le_of_ble_eq_true rfl), rfl⟩
theorem mr_44 : mR 44 2 4100 := ⟨⟨Nat.le_of_ble_eq_true rfl, by decide⟩, rfl, rfl, by decide, by decide⟩
theorem mf_45 : mF 45 124 (.array .int) := ⟨Nat.le_of_ble_eq_true rfl, q1880, rfl, tyX5_ok 45 (Nat.le_of_ble_eq_true rfl), rfl⟩
theorem mr_45 : mR 45 1 4100 := ⟨⟨Nat.le_of_ble_eq_true rfl, by decide⟩, rfl, rfl, by decide, by decide⟩
theorem mf_46 : mF 46 355 (.int) := ⟨Nat.le_of_ble_eq_true rfl, q1881, rfl, tyX5_ok 46 (Nat.le_of_ble_eq_true rfl), rfl⟩
theorem mfw_46 : mFw 46 := rfl
theorem mf_47 : mF 47 361 (.int) := ⟨Nat.le_of_ble_eq_true rfl, q1882, rfl, tyX5_ok 47 (Nat.le_of_ble_eq_true rfl), rfl⟩
theorem mfw_47 : mFw 47 := rfl
theorem mf_48 : mF 48 127 (.array .int) := ⟨Nat.le_of_ble_eq_true rfl, q1883, rfl, tyX5_ok 48 (Nat.le_of_ble_eq_true rfl), rfl⟩
theorem mr_48 : mR 48 1 4100 := ⟨⟨Nat.le_of_ble_eq_true rfl, by decide⟩, rfl, rfl, by decide, by decide⟩
theorem mf_49 : mF 49 386 (.int) := ⟨Nat.le_of_ble_eq_true rfl, q1884, rfl, tyX5_ok 49 (Nat.le_of_ble_eq_true rfl), rfl⟩
theorem mfw_49 : mFw 49 := rfl
theorem mf_50 : mF 50 383 (.int) := ⟨Nat.le_of_ble_eq_true rfl, q1885, rfl, tyX5_ok 50 (Nat.le_of_ble_eq_true rfl), rfl⟩
theorem mfw_50 : mFw 50 := rfl
theorem mf_51 : mF 51 364 (.int) := ⟨Nat.le_of_ble_eq_true rfl, q1886, rfl, tyX5_ok 51 (Nat.le_of_ble_eq_true rfl), rfl⟩
theorem mfw_51 : mFw 51 := rfl
theorem mf_52 : mF 52 358 (.int) := ⟨Nat.le_of_ble_eq_true rfl, q1887, rfl, tyX5_ok 52 (Nat.le_of_ble_eq_true rfl), rfl⟩
theorem mfw_52 : mFw 52 := rfl
theorem mf_53 : mF 53 130 (.array .int) := ⟨Nat.le_of_ble_eq_true rfl, q1888, rfl, tyX5_ok 53 (Nat.le_of_ble_eq_true rfl), rfl⟩
theorem mr_53 : mR 53 1 1400 := ⟨⟨Nat.le_of_ble_eq_true rfl, by decide⟩, rfl, rfl, by decide, by decide⟩
theorem mf_54 : mF 54 133 (.array .int) := ⟨Nat.le_of_ble_eq_true rfl, q1889, rfl, tyX5_ok 54 (Nat.le_of_ble_eq_true rfl), rfl⟩
theorem mr_54 : mR 54 1 1400 := ⟨⟨Nat.le_of_ble_eq_true rfl, by decide⟩, rfl, rfl, by decide, by decide⟩
theorem mf_55 : mF 55 136 (.array .int) := ⟨Nat.le_of_ble_eq_true rfl, q1890, rfl, tyX5_ok 55 (Nat.le_of_ble_eq_true rfl), rfl⟩
theorem mr_55 : mR 55 1 1400 := ⟨⟨Nat.le_of_ble_eq_true rfl, by decide⟩, rfl, rfl, by decide, by decide⟩
theorem mf_56 : mF 56 428 (.int) := ⟨Nat.le_of_ble_eq_true rfl, q1891, rfl, tyX5_ok 56 (Nat.le_of_ble_eq_true rfl), rfl⟩
theorem mfw_56 : mFw 56 := rfl
theorem mf_57 : mF 57 139 (.array .int) := ⟨Nat.le_of_ble_eq_true rfl, q1892, rfl, tyX5_ok 57 (Nat.le_of_ble_eq_true rfl), rfl⟩
theorem mr_57 : mR 57 1 24 := ⟨⟨Nat.le_of_ble_eq_true rfl, by decide⟩, rfl, rfl, by decide, by decide⟩
theorem mf_58 : mF 58 142 (.array .boolean) := ⟨Nat.le_of_ble_eq_true rfl, q1893, rfl, tyX5_ok 58 (Nat.le_of_ble_eq_true rfl), rfl⟩
theorem mr_58 : mR 58 3 1400 := ⟨⟨Nat.le_of_ble_eq_true rfl, by decide⟩, rfl, rfl, by decide, by decide⟩
theorem mf_59 : mF 59 145 (.array .int) := ⟨Nat.le_of_ble_eq_true rfl, q1894, rfl, tyX5_ok 59 (Nat.le_of_ble_eq_true rfl), rfl⟩
theorem mr_59 : mR 59 1 8 := ⟨⟨Nat.le_of_ble_eq_true rfl, by decide⟩, rfl, rfl, by decide, by decide⟩
theorem mf_60 : mF 60 148 (.array .boolean) := ⟨Nat.le_of_ble_eq_true rfl, q1895, rfl, tyX5_ok 60 (Nat.le_of_ble_eq_true rfl), rfl⟩
theorem mr_60 : mR 60 3 4100 := ⟨⟨Nat.le_of_ble_eq_true rfl, by decide⟩, rfl, rfl, by decide, by decide⟩
theorem mf_61 : mF 61 151 (.array .boolean) := ⟨Nat.le_of_ble_eq_true rfl, q1896, rfl, tyX5_ok 61 (Nat.le_of_ble_eq_true rfl), rfl⟩
theorem mr_61 : mR 61 3 12 := ⟨⟨Nat.le_of_ble_eq_true rfl, by decide⟩, rfl, rfl, by decide, by decide⟩
theorem mf_62 : mF 62 500 (.int) := ⟨Nat.le_of_ble_eq_true rfl, q1897, rfl, tyX5_ok 62 (Nat.le_of_ble_eq_true rfl), rfl⟩
theorem mfw_62 : mFw 62 := rfl
theorem mf_63 : mF 63 154 (.array .int) := ⟨Nat.le_of_ble_eq_true rfl, q1898, rfl, tyX5_ok 63 (Nat.le_of_ble_eq_true rfl), rfl⟩
theorem mr_63 : mR 63 1 16000 := ⟨⟨Nat.le_of_ble_eq_true rfl, by decide⟩, rfl, rfl, by decide, by decide⟩
theorem mf_64 : mF 64 157 (.array .int) := ⟨Nat.le_of_ble_eq_true rfl, q1899, rfl, tyX5_ok 64 (Nat.le_of_ble_eq_true rfl), rfl⟩
theorem mr_64 : mR 64 1 8 := ⟨⟨Nat.le_of_ble_eq_true rfl, by decide⟩, rfl, rfl, by decide, by decide⟩
theorem mf_65 : mF 65 524 (.int) := ⟨Nat.le_of_ble_eq_true rfl, q1900, rfl, tyX5_ok 65 (Nat.le_of_ble_eq_true rfl), rfl⟩
theorem mfw_65 : mFw 65 := rfl
theorem mf_66 : mF 66 160 (.array .int) := ⟨Nat.le_of_ble_eq_true rfl, q1901, rfl, tyX5_ok 66 (Nat.le_of_ble_eq_true rfl), rfl⟩
theorem mr_66 : mR 66 1 16 := ⟨⟨Nat.le_of_ble_eq_true rfl, by decide⟩, rfl, rfl, by decide, by decide⟩
theorem mf_67 : mF 67 163 (.array .int) := ⟨Nat.le_of_ble_eq_true rfl, q1902, rfl, tyX5_ok 67 (Nat.le_of_ble_eq_true rfl), rfl⟩
theorem mr_67 : mR 67 1 2 := ⟨⟨Nat.le_of_ble_eq_true rfl, by decide⟩, rfl, rfl, by decide, by decide⟩
theorem mf_68 : mF 68 536 (.boolean) := ⟨Nat.le_of_ble_eq_true rfl, q1903, rfl, tyX5_ok 68 (Nat.le_of_ble_eq_true rfl), rfl⟩
theorem mfw_68 : mFw 68 := rfl
theorem mf_69 : mF 69 166 (.array .int) := ⟨Nat.le_of_ble_eq_true rfl, q1904, rfl, tyX5_ok 69 (Nat.le_of_ble_eq_true rfl), rfl⟩
theorem mr_69 : mR 69 1 8 := ⟨⟨Nat.le_of_ble_eq_true rfl, by decide⟩, rfl, rfl, by decide, by decide⟩
theorem mf_70 : mF 70 169 (.int) := ⟨Nat.le_of_ble_eq_true rfl, q1905, rfl, tyX5_ok 70 (Nat.le_of_ble_eq_true rfl), rfl⟩
theorem mfw_70 : mFw 70 := rfl
theorem mf_71 : mF 71 546 (.int) := ⟨Nat.le_of_ble_eq_true rfl, q1906, rfl, tyX5_ok 71 (Nat.le_of_ble_eq_true rfl), rfl⟩
theorem mfw_71 : mFw 71 := rfl
theorem mf_72 : mF 72 172 (.array .int) := ⟨Nat.le_of_ble_eq_true rfl, q1907, rfl, tyX5_ok 72 (Nat.le_of_ble_eq_true rfl), rfl⟩
theorem mr_72 : mR 72 1 33 := ⟨⟨Nat.le_of_ble_eq_true rfl, by decide⟩, rfl, rfl, by decide, by decide⟩
theorem mf_73 : mF 73 175 (.array .int) := ⟨Nat.le_of_ble_eq_true rfl, q1908, rfl, tyX5_ok 73 (Nat.le_of_ble_eq_true rfl), rfl⟩
theorem mr_73 : mR 73 1 1584 := ⟨⟨Nat.le_of_ble_eq_true rfl, by decide⟩, rfl, rfl, by decide, by decide⟩
theorem mf_74 : mF 74 178 (.array .int) := ⟨Nat.le_of_ble_eq_true rfl, q1909, rfl, tyX5_ok 74 (Nat.le_of_ble_eq_true rfl), rfl⟩
theorem mr_74 : mR 74 1 1584 := ⟨⟨Nat.le_of_ble_eq_true rfl, by decide⟩, rfl, rfl, by decide, by decide⟩
theorem mf_75 : mF 75 181 (.array .int) := ⟨Nat.le_of_ble_eq_true rfl, q1910, rfl, tyX5_ok 75 (Nat.le_of_ble_eq_true rfl), rfl⟩
theorem mr_75 : mR 75 1 264 := ⟨⟨Nat.le_of_ble_eq_true rfl, by decide⟩, rfl, rfl, by decide, by decide⟩
theorem mf_76 : mF 76 184 (.array .int) := ⟨Nat.le_of_ble_eq_true rfl, q1911, rfl, tyX5_ok 76 (Nat.le_of_ble_eq_true rfl), rfl⟩
theorem mr_76 : mR 76 1 8 := ⟨⟨Nat.le_of_ble_eq_true rfl, by decide⟩, rfl, rfl, by decide, by decide⟩
theorem mf_77 : mF 77 187 (.array .int) := ⟨Nat.le_of_ble_eq_true rfl, q1912, rfl, tyX5_ok 77 (Nat.le_of_ble_eq_true rfl), rfl⟩
theorem mr_77 : mR 77 1 8 := ⟨⟨Nat.le_of_ble_eq_true rfl, by decide⟩, rfl, rfl, by decide, by decide⟩
theorem mf_78 : mF 78 190 (.array .int) := ⟨Nat.le_of_ble_eq_true rfl, q1913, rfl, tyX5_ok 78 (Nat.le_of_ble_eq_true rfl), rfl⟩
theorem mr_78 : mR 78 1 2 := ⟨⟨Nat.le_of_ble_eq_true rfl, by decide⟩, rfl, rfl, by decide, by decide⟩
theorem mf_79 : mF 79 193 (.array .int) := ⟨Nat.le_of_ble_eq_true rfl, q1914, rfl, tyX5_ok 79 (Nat.le_of_ble_eq_true rfl), rfl⟩
theorem mr_79 : mR 79 1 2000 := ⟨⟨Nat.le_of_ble_eq_true rfl, by decide⟩, rfl, rfl, by decide, by decide⟩
theorem mf_80 : mF 80 196 (.array .int) := ⟨Nat.le_of_ble_eq_true rfl, q1915, rfl, tyX5_ok 80 (Nat.le_of_ble_eq_true rfl), rfl⟩
theorem mr_80 : mR 80 1 8 := ⟨⟨Nat.le_of_ble_eq_true rfl, by decide⟩, rfl, rfl, by decide, by decide⟩
theorem mf_81 : mF 81 601 (.int) := ⟨Nat.le_of_ble_eq_true rfl, q1916, rfl, tyX5_ok 81 (Nat.le_of_ble_eq_true rfl), rfl⟩
theorem mfw_81 : mFw 81 := rfl
theorem mf_82 : mF 82 199 (.array .int) := ⟨Nat.le_of_ble_eq_true rfl, q1917, rfl, tyX5_ok 82 (Nat.le_of_ble_eq_true rfl), rfl⟩
theorem mr_82 : mR 82 1 13 := ⟨⟨Nat.le_of_ble_eq_true rfl, by decide⟩, rfl, rfl, by decide, by decide⟩
theorem mf_83 : mF 83 202 (.array .int) := ⟨Nat.le_of_ble_eq_true rfl, q1918, rfl, tyX5_ok 83 (Nat.le_of_ble_eq_true rfl), rfl⟩
theorem mr_83 : mR 83 1 312 := ⟨⟨Nat.le_of_ble_eq_true rfl, by decide⟩, rfl, rfl, by decide, by decide⟩
theorem mf_84 : mF 84 205 (.array .int) := ⟨Nat.le_of_ble_eq_true rfl, q1919, rfl, tyX5_ok 84 (Nat.le_of_ble_eq_true rfl), rfl⟩
theorem mr_84 : mR 84 1 312 := ⟨⟨Nat.le_of_ble_eq_true rfl, by decide⟩, rfl, rfl, by decide, by decide⟩
theorem mf_85 : mF 85 208 (.array .int) := ⟨Nat.le_of_ble_eq_true rfl, q1920, rfl, tyX5_ok 85 (Nat.le_of_ble_eq_true rfl), rfl⟩
theorem mr_85 : mR 85 1 312 := ⟨⟨Nat.le_of_ble_eq_true rfl, by decide⟩, rfl, rfl, by decide, by decide⟩
theorem mf_86 : mF 86 211 (.array .int) := ⟨Nat.le_of_ble_eq_true rfl, q1921, rfl, tyX5_ok 86 (Nat.le_of_ble_eq_true rfl), rfl⟩
theorem mr_86 : mR 86 1 312 := ⟨⟨Nat.le_of_ble_eq_true rfl, by decide⟩, rfl, rfl, by decide, by decide⟩
theorem mf_87 : mF 87 611 (.int) := ⟨Nat.le_of_ble_eq_true rfl, q1922, rfl, tyX5_ok 87 (Nat.le_of_ble_eq_true rfl), rfl⟩
theorem mfw_87 : mFw 87 := rfl
theorem mf_88 : mF 88 214 (.array .int) := ⟨Nat.le_of_ble_eq_true rfl, q1923, rfl, tyX5_ok 88 (Nat.le_of_ble_eq_true rfl), rfl⟩
theorem mr_88 : mR 88 1 41 := ⟨⟨Nat.le_of_ble_eq_true rfl, by decide⟩, rfl, rfl, by decide, by decide⟩
theorem mf_89 : mF 89 217 (.array .int) := ⟨Nat.le_of_ble_eq_true rfl, q1924, rfl, tyX5_ok 89 (Nat.le_of_ble_eq_true rfl), rfl⟩
theorem mr_89 : mR 89 1 41 := ⟨⟨Nat.le_of_ble_eq_true rfl, by decide⟩, rfl, rfl, by decide, by decide⟩
theorem mf_90 : mF 90 220 (.array .int) := ⟨Nat.le_of_ble_eq_true rfl, q1925, rfl, tyX5_ok 90 (Nat.le_of_ble_eq_true rfl), rfl⟩
theorem mr_90 : mR 90 1 41 := ⟨⟨Nat.le_of_ble_eq_true rfl, by decide⟩, rfl, rfl, by decide, by decide⟩
theorem mf_91 : mF 91 223 (.array .int) := ⟨Nat.le_of_ble_eq_true rfl, q1926, rfl, tyX5_ok 91 (Nat.le_of_ble_eq_true rfl), rfl⟩
theorem mr_91 : mR 91 1 41 := ⟨⟨Nat.le_of_ble_eq_true rfl, by decide⟩, rfl, rfl, by decide, by decide⟩
theorem mf_92 : mF 92 226 (.array .int) := ⟨Nat.le_of_ble_eq_true rfl, q1927, rfl, tyX5_ok 92 (Nat.le_of_ble_eq_true rfl), rfl⟩
theorem mr_92 : mR 92 1 41 := ⟨⟨Nat.le_of_ble_eq_true rfl, by decide⟩, rfl, rfl, by decide, by decide⟩
theorem mf_93 : mF 93 229 (.array .int) := ⟨Nat.le_of_ble_eq_true rfl, q1928, rfl, tyX5_ok 93 (Nat.le_of_ble_eq_true rfl), rfl⟩
theorem mr_93 : mR 93 1 246 := ⟨⟨Nat.le_of_ble_eq_true rfl, by decide⟩, rfl, rfl, by decide, by decide⟩
theorem mf_94 : mF 94 232 (.array .int) := ⟨Nat.le_of_ble_eq_true rfl, q1929, rfl, tyX5_ok 94 (Nat.le_of_ble_eq_true rfl), rfl⟩
theorem mr_94 : mR 94 1 246 := ⟨⟨Nat.le_of_ble_eq_true rfl, by decide⟩, rfl, rfl, by decide, by decide⟩
theorem mf_95 : mF 95 235 (.array .long) := ⟨Nat.le_of_ble_eq_true rfl, q1930, rfl, tyX5_ok 95 (Nat.le_of_ble_eq_true rfl), rfl⟩
theorem mr_95 : mR 95 4 41 := ⟨⟨Nat.le_of_ble_eq_true rfl, by decide⟩, rfl, rfl, by decide, by decide⟩
theorem mf_96 : mF 96 238 (.array .boolean) := ⟨Nat.le_of_ble_eq_true rfl, q1931, rfl, tyX5_ok 96 (Nat.le_of_ble_eq_true rfl), rfl⟩
theorem mr_96 : mR 96 3 41 := ⟨⟨Nat.le_of_ble_eq_true rfl, by decide⟩, rfl, rfl, by decide, by decide⟩
theorem mf_97 : mF 97 634 (.int) := ⟨Nat.le_of_ble_eq_true rfl, q1932, rfl, tyX5_ok 97 (Nat.le_of_ble_eq_true rfl), rfl⟩
theorem mfw_97 : mFw 97 := rfl
theorem mf_98 : mF 98 241 (.array .int) := ⟨Nat.le_of_ble_eq_true rfl, q1933, rfl, tyX5_ok 98 (Nat.le_of_ble_eq_true rfl), rfl⟩
theorem mr_98 : mR 98 1 6 := ⟨⟨Nat.le_of_ble_eq_true rfl, by decide⟩, rfl, rfl, by decide, by decide⟩
theorem mf_99 : mF 99 244 (.array .int) := ⟨Nat.le_of_ble_eq_true rfl, q1934, rfl, tyX5_ok 99 (Nat.le_of_ble_eq_true rfl), rfl⟩
theorem mr_99 : mR 99 1 6 := ⟨⟨Nat.le_of_ble_eq_true rfl, by decide⟩, rfl, rfl, by decide, by decide⟩
theorem mf_100 : mF 100 247 (.array .int) := ⟨Nat.le_of_ble_eq_true rfl, q1935, rfl, tyX5_ok 100 (Nat.le_of_ble_eq_true rfl), rfl⟩
theorem mr_100 : mR 100 1 6 := ⟨⟨Nat.le_of_ble_eq_true rfl, by decide⟩, rfl, rfl, by decide, by decide⟩
theorem mf_101 : mF 101 291 (.int) := ⟨Nat.le_of_ble_eq_true rfl, q1936, rfl, tyX5_ok 101 (Nat.le_of_ble_eq_true rfl), rfl⟩
theorem mfw_101 : mFw 101 := rfl
theorem mf_102 : mF 102 644 (.int) := ⟨Nat.le_of_ble_eq_true rfl, q1937, rfl, tyX5_ok 102 (Nat.le_of_ble_eq_true rfl), rfl⟩
theorem mfw_102 : mFw 102 := rfl
theorem mf_103 : mF 103 250 (.array .int) := ⟨Nat.le_of_ble_eq_true rfl, q1938, rfl, tyX5_ok 103 (Nat.le_of_ble_eq_true rfl), rfl⟩
theorem mr_103 : mR 103 1 400 := ⟨⟨Nat.le_of_ble_eq_true rfl, by decide⟩, rfl, rfl, by decide, by decide⟩
theorem mf_104 : mF 104 253 (.array .int) := ⟨Nat.le_of_ble_eq_true rfl, q1939, rfl, tyX5_ok 104 (Nat.le_of_ble_eq_true rfl), rfl⟩
theorem mr_104 : mR 104 1 400 := ⟨⟨Nat.le_of_ble_eq_true rfl, by decide⟩, rfl, rfl, by decide, by decide⟩
theorem mf_105 : mF 105 256 (.array .int) := ⟨Nat.le_of_ble_eq_true rfl, q1940, rfl, tyX5_ok 105 (Nat.le_of_ble_eq_true rfl), rfl⟩
theorem mr_105 : mR 105 1 400 := ⟨⟨Nat.le_of_ble_eq_true rfl, by decide⟩, rfl, rfl, by decide, by decide⟩
theorem mf_106 : mF 106 259 (.array .int) := ⟨Nat.le_of_ble_eq_true rfl, q1941, rfl, tyX5_ok 106 (Nat.le_of_ble_eq_true rfl), rfl⟩
theorem mr_106 : mR 106 1 400 := ⟨⟨Nat.le_of_ble_eq_true rfl, by decide⟩, rfl, rfl, by decide, by decide⟩
theorem mf_107 : mF 107 262 (.array .long) := ⟨Nat.le_of_ble_eq_true rfl, q1942, rfl, tyX5_ok 107 (Nat.le_of_ble_eq_true rfl), rfl⟩
theorem mr_107 : mR 107 4 41 := ⟨⟨Nat.le_of_ble_eq_true rfl, by decide⟩, rfl, rfl, by decide, by decide⟩
theorem mf_108 : mF 108 265 (.array .long) := ⟨Nat.le_of_ble_eq_true rfl, q1943, rfl, tyX5_ok 108 (Nat.le_of_ble_eq_true rfl), rfl⟩
theorem mr_108 : mR 108 4 41 := ⟨⟨Nat.le_of_ble_eq_true rfl, by decide⟩, rfl, rfl, by decide, by decide⟩
theorem mf_109 : mF 109 268 (.array .int) := ⟨Nat.le_of_ble_eq_true rfl, q1944, rfl, tyX5_ok 109 (Nat.le_of_ble_eq_true rfl), rfl⟩
theorem mr_109 : mR 109 1 401 := ⟨⟨Nat.le_of_ble_eq_true rfl, by decide⟩, rfl, rfl, by decide, by decide⟩
theorem mf_110 : mF 110 271 (.array .int) := ⟨Nat.le_of_ble_eq_true rfl, q1945, rfl, tyX5_ok 110 (Nat.le_of_ble_eq_true rfl), rfl⟩
theorem mr_110 : mR 110 1 5 := ⟨⟨Nat.le_of_ble_eq_true rfl, by decide⟩, rfl, rfl, by decide, by decide⟩
theorem mf_111 : mF 111 660 (.int) := ⟨Nat.le_of_ble_eq_true rfl, q1946, rfl, tyX5_ok 111 (Nat.le_of_ble_eq_true rfl), rfl⟩
theorem mfw_111 : mFw 111 := rfl
theorem mf_112 : mF 112 274 (.array .long) := ⟨Nat.le_of_ble_eq_true rfl, q1947, rfl, tyX5_ok 112 (Nat.le_of_ble_eq_true rfl), rfl⟩
theorem mr_112 : mR 112 4 1601 := ⟨⟨Nat.le_of_ble_eq_true rfl, by decide⟩, rfl, rfl, by decide, by decide⟩
theorem mf_113 : mF 113 277 (.array .long) := ⟨Nat.le_of_ble_eq_true rfl, q1948, rfl, tyX5_ok 113 (Nat.le_of_ble_eq_true rfl), rfl⟩
theorem mr_113 : mR 113 4 1601 := ⟨⟨Nat.le_of_ble_eq_true rfl, by decide⟩, rfl, rfl, by decide, by decide⟩
theorem mf_114 : mF 114 280 (.array .long) := ⟨Nat.le_of_ble_eq_true rfl, q1949, rfl, tyX5_ok 114 (Nat.le_of_ble_eq_true rfl), rfl⟩
theorem mr_114 : mR 114 4 1601 := ⟨⟨Nat.le_of_ble_eq_true rfl, by decide⟩, rfl, rfl, by decide, by decide⟩
theorem mf_115 : mF 115 663 (.boolean) := ⟨Nat.le_of_ble_eq_true rfl, q1950, rfl, tyX5_ok 115 (Nat.le_of_ble_eq_true rfl), rfl⟩
theorem mfw_115 : mFw 115 := rfl
abbrev J5 (G : MG) (l : Launch) (D : MD) (a : List PV) (o : Option PV) (w' u : Mu) (pc : Nat) (lv : List (Nat × PV)) (st : List PV) : Prop := JW kT (bM G) (aM G) l D a (jQ (bM G) (aM G) a o w' 0 0) 0 0 u 0 0 pc lv st
section MRows
variable {G : MG} {l : Launch} {D : MD} {a : List PV} {Q : List Frame → State → State → Prop} {w' w : Mu} {mc ms0 ce sl pc : Nat} {lv lv' : List (Nat × PV)} {st : List PV}
theorem m_get {k idx : Nat} {ty : FieldType} {v : PV} (hf : mF k idx ty) (hown : D.1 = RX5) (hv : mV G w k = mv v) (hd : decode D.2.1 pc = .ok (.getfield idx, 3)) (kk : JW kT (bM G) (aM G) l D a Q mc ms0 w ce sl (pc + 3) lv (v :: st)) : JW kT (bM G) (aM G) l D a Q mc ms0 w ce sl pc lv (pR (some G.1) :: st) := by
  intro p e s m below meth c H locs ls X hr hlk hn hK hB hS hl
  have h := kk p e s m below meth c H locs ls X hr hlk hn hK hB hS hl
  obtain ⟨⟨⟨hSl, hfc, kC, hkC, hkind⟩, -⟩, ⟨cell, q1, q2, q3, q4⟩, -, -⟩ := hB
  obtain ⟨hk, hlink, -, -, hrc⟩ := hf
  obtain ⟨cf, kf, fi, f, hi, hsl⟩ := hSl k hk
  rw [List.map_cons, ← hv] at h
  refine W.getf X.1 X.2.1 (X.2.2.2.1) (X.2.2.2.2 _ (by rw [hown]; exact hlink)) (by rw [← hrc]; exact hi) (u_facts hfc hkC (u_lays X.2.2.2.2 in_X5 hk) hi).1 q1 (by rw [q3]; exact fun h => by cases h) (v := mV G w k) ?_ rfl rfl hd h
  rw [hsl, q4 k hk]
theorem m_geti {k idx : Nat} (hf : mF k idx .int) (hown : D.1 = RX5) (hd : decode D.2.1 pc = .ok (.getfield idx, 3)) (kk : JW kT (bM G) (aM G) l D a Q mc ms0 w ce sl (pc + 3) lv (pI (w.1 k) :: st)) : JW kT (bM G) (aM G) l D a Q mc ms0 w ce sl pc lv (pR (some G.1) :: st) :=
  m_get hf hown (by unfold mV; rw [hf.2.2.1]; rfl) hd kk
theorem m_getz {k idx : Nat} (hf : mF k idx .boolean) (hown : D.1 = RX5) (hd : decode D.2.1 pc = .ok (.getfield idx, 3)) (kk : JW kT (bM G) (aM G) l D a Q mc ms0 w ce sl (pc + 3) lv (pI (w.1 k) :: st)) : JW kT (bM G) (aM G) l D a Q mc ms0 w ce sl pc lv (pR (some G.1) :: st) :=
  m_get hf hown (by unfold mV; rw [hf.2.2.1]; rfl) hd kk
theorem m_getl {k idx : Nat} (hf : mF k idx .long) (hown : D.1 = RX5) (hd : decode D.2.1 pc = .ok (.getfield idx, 3)) (kk : JW kT (bM G) (aM G) l D a Q mc ms0 w ce sl (pc + 3) lv (pL (w.1 k) :: st)) : JW kT (bM G) (aM G) l D a Q mc ms0 w ce sl pc lv (pR (some G.1) :: st) :=
  m_get hf hown (by unfold mV; rw [hf.2.2.1]; rfl) hd kk
theorem m_geta {k idx : Nat} {t : FieldType} (hf : mF k idx (.array t)) (hown : D.1 = RX5) (hd : decode D.2.1 pc = .ok (.getfield idx, 3)) (kk : JW kT (bM G) (aM G) l D a Q mc ms0 w ce sl (pc + 3) lv (pR (some (G.2.1 k)) :: st)) : JW kT (bM G) (aM G) l D a Q mc ms0 w ce sl pc lv (pR (some G.1) :: st) :=
  m_get hf hown (by unfold mV; rw [hf.2.2.1]; rfl) hd kk
theorem m_put {k idx : Nat} {ty : FieldType} {v : PV} {z : Int} (hf : mF k idx ty) (hw : mFw k) (hown : D.1 = RX5) (hk0 : mkd ty = 0) (hv : mV G (ms w k z) k = mv v) (hn0 : narrow ty (mv v) = mv v) (hfit : fits ty (mv v) = true) (hd : decode D.2.1 pc = .ok (.putfield idx, 3)) (kk : JW kT (bM G) (aM G) l D a Q mc ms0 (ms w k z) ce sl (pc + 3) lv st) : JW kT (bM G) (aM G) l D a Q mc ms0 w ce sl pc lv (v :: pR (some G.1) :: st) := by
  intro p e s m below meth c H locs ls X hr hlk hn hK hB hS hl
  obtain ⟨⟨⟨hSl, hfc, kC, hkC, hkind⟩, hAr⟩, ⟨cell, q1, q2, q3, q4⟩, hArr, hInj⟩ := hB
  obtain ⟨hk, hlink, hty, hd5, hrc⟩ := hf
  have hK9 : va_K (fun _ => G.2.2.1, fun _ => G.2.2.2.1) [(RX5, TX5, 116)] [] s := by
    refine ⟨fun c9 q9 h9 => ?_, fun k9 q9 h9 => by simp at h9⟩
    cases c9 with
    | zero => cases h9; exact ⟨hSl, hfc, kC, hkC, hkind⟩
    | succ n => simp at h9
  have hap := va_apart (own := RX5) X.2.2.2.2 in_X5 tyX5 tyX5_ok nmX5 hK9 (ci := 0) rfl
  obtain ⟨cf, kf, fi, f, hi, hsl⟩ := hSl k hk
  have hlay := X.2.2.2.2 _ (in_X5 _ (u_in_lay hk))
  unfold u_lay at hlay
  rw [if_neg (by rw [hw]; decide)] at hlay
  have hst := (u_facts hfc hkC (u_lays X.2.2.2.2 in_X5 hk) hi).1
  have h6 := u_store hfc hkC hkind hlay hi hd5 hn0 hfit
  refine W.putK X.1 X.2.1 (f := f) (v := mv v) ⟨X.2.2.2.1, X.2.2.2.2 _ (by rw [hown]; exact hlink), ⟨_, _, _, by rw [← hrc]; exact hi⟩, hst⟩ (by rw [q2]; exact h6) q1 q3 (by rw [hsl]; exact k2_hasslot (q4 k hk)) rfl rfl hd fun H' e1 e2 e3 => ?_
  rw [hsl] at e1 ⊢
  refine kk p e s m below meth c H' _ ls X hr hlk hn hK ⟨⟨⟨hSl, hfc, kC, hkC, hkind⟩, hAr⟩, t_OB.to (V := updV (mV G w) k (mv v)) ⟨_, e1, q2, q3, t_set q4 hap hk (mv v)⟩ (fun j hj => ?_), fun j hj => ?_, hInj⟩ (hS.put e2 e3 (Or.inl rfl)) hl
  · unfold updV
    by_cases hjk : j = k
    · rw [if_pos hjk, hjk, hv]
    · rw [if_neg hjk]
      unfold mV ms va_up
      simp only [if_neg hjk]
  · rw [e3 _ (hInj j hj).1, hArr j hj]
    rfl
theorem m_puti {k idx : Nat} {z : Int} (hf : mF k idx .int) (hw : mFw k) (hown : D.1 = RX5) (hd : decode D.2.1 pc = .ok (.putfield idx, 3)) (kk : JW kT (bM G) (aM G) l D a Q mc ms0 (ms w k z) ce sl (pc + 3) lv st) : JW kT (bM G) (aM G) l D a Q mc ms0 w ce sl pc lv (pI z :: pR (some G.1) :: st) :=
  m_put hf hw hown rfl (by unfold mV ms va_up; rw [hf.2.2.1]; simp [mv]) rfl rfl hd kk
theorem m_putz {k idx : Nat} {z : Int} (hz : narrow .boolean (.int (jI z)) = .int (jI z) ∧ fits .boolean (.int (jI z)) = true) (hf : mF k idx .boolean) (hw : mFw k) (hown : D.1 = RX5) (hd : decode D.2.1 pc = .ok (.putfield idx, 3)) (kk : JW kT (bM G) (aM G) l D a Q mc ms0 (ms w k z) ce sl (pc + 3) lv st) : JW kT (bM G) (aM G) l D a Q mc ms0 w ce sl pc lv (pI z :: pR (some G.1) :: st) :=
  m_put hf hw hown rfl (by unfold mV ms va_up; rw [hf.2.2.1]; simp [mv]) hz.1 hz.2 hd kk
theorem m_putl {k idx : Nat} {z : Int} (hf : mF k idx .long) (hw : mFw k) (hown : D.1 = RX5) (hd : decode D.2.1 pc = .ok (.putfield idx, 3)) (kk : JW kT (bM G) (aM G) l D a Q mc ms0 (ms w k z) ce sl (pc + 3) lv st) : JW kT (bM G) (aM G) l D a Q mc ms0 w ce sl pc lv (pL z :: pR (some G.1) :: st) :=
  m_put hf hw hown rfl (by unfold mV ms va_up; rw [hf.2.2.1]; simp [mv]) rfl rfl hd kk
theorem m_iald {k n : Nat} {i v : Int} (hR : mR k 1 n) (h : mald w k n i = some v) (hd : decode D.2.1 pc = .ok (.iaload, 1)) (kk : JW kT (bM G) (aM G) l D a Q mc ms0 w ce sl (pc + 1) lv (pI v :: st)) : JW kT (bM G) (aM G) l D a Q mc ms0 w ce sl pc lv (pI i :: pR (some (G.2.1 k)) :: st) := by
  intro p e s m below meth c H locs ls X hr hlk hn hK hB hS hl
  have h9 := kk p e s m below meth c H locs ls X hr hlk hn hK hB hS hl
  obtain ⟨hi, hv⟩ := mald_some h
  obtain ⟨hk, ht, hm, -, -⟩ := hR
  have hc := hB.2.2.1 k hk
  unfold mC at hc
  rw [ht, hm] at hc
  have hlt : (jI i).toNatClampNeg < n := by rw [clamp_I]; omega
  subst hv
  refine W.iald X.1 X.2.1 hc (hB.1.2 1 (by decide) (by decide) n _) (fun q => by cases q) (by show ¬ (jI i < 0 ∨ (arrV _ _ _).slots.size ≤ _); rw [arrV_size]; exact in_I hi) (v := mv (pI (w.2 k (w32 i).toNat))) (by show (arrV _ _ _).slots[_]? = _; rw [arrV_read _ _ hlt, clamp_I]; rfl) rfl rfl hd h9
theorem m_bald {k n : Nat} {i v : Int} (hR : mR k 2 n) (h : mald w k n i = some v) (hd : decode D.2.1 pc = .ok (.baload, 1)) (kk : JW kT (bM G) (aM G) l D a Q mc ms0 w ce sl (pc + 1) lv (pI v :: st)) : JW kT (bM G) (aM G) l D a Q mc ms0 w ce sl pc lv (pI i :: pR (some (G.2.1 k)) :: st) := by
  intro p e s m below meth c H locs ls X hr hlk hn hK hB hS hl
  have h9 := kk p e s m below meth c H locs ls X hr hlk hn hK hB hS hl
  obtain ⟨hi, hv⟩ := mald_some h
  obtain ⟨hk, ht, hm, -, -⟩ := hR
  have hc := hB.2.2.1 k hk
  unfold mC at hc
  rw [ht, hm] at hc
  have hlt : (jI i).toNatClampNeg < n := by rw [clamp_I]; omega
  subst hv
  refine W.bald X.1 X.2.1 hc (hB.1.2 2 (by decide) (by decide) n _) (fun q => by cases q) (by show ¬ (jI i < 0 ∨ (arrV _ _ _).slots.size ≤ _); rw [arrV_size]; exact in_I hi) (v := mv (pI (w.2 k (w32 i).toNat))) (by show (arrV _ _ _).slots[_]? = _; rw [arrV_read _ _ hlt, clamp_I]; rfl) rfl rfl hd h9
theorem m_zald {k n : Nat} {i v : Int} (hR : mR k 3 n) (h : mald w k n i = some v) (hd : decode D.2.1 pc = .ok (.baload, 1)) (kk : JW kT (bM G) (aM G) l D a Q mc ms0 w ce sl (pc + 1) lv (pI v :: st)) : JW kT (bM G) (aM G) l D a Q mc ms0 w ce sl pc lv (pI i :: pR (some (G.2.1 k)) :: st) := by
  intro p e s m below meth c H locs ls X hr hlk hn hK hB hS hl
  have h9 := kk p e s m below meth c H locs ls X hr hlk hn hK hB hS hl
  obtain ⟨hi, hv⟩ := mald_some h
  obtain ⟨hk, ht, hm, -, -⟩ := hR
  have hc := hB.2.2.1 k hk
  unfold mC at hc
  rw [ht, hm] at hc
  have hlt : (jI i).toNatClampNeg < n := by rw [clamp_I]; omega
  subst hv
  refine W.zald X.1 X.2.1 hc (hB.1.2 3 (by decide) (by decide) n _) (fun q => by cases q) (by show ¬ (jI i < 0 ∨ (arrV _ _ _).slots.size ≤ _); rw [arrV_size]; exact in_I hi) (v := mv (pI (w.2 k (w32 i).toNat))) (by show (arrV _ _ _).slots[_]? = _; rw [arrV_read _ _ hlt, clamp_I]; rfl) rfl rfl hd h9
theorem m_lald {k n : Nat} {i v : Int} (hR : mR k 4 n) (h : mald w k n i = some v) (hd : decode D.2.1 pc = .ok (.laload, 1)) (kk : JW kT (bM G) (aM G) l D a Q mc ms0 w ce sl (pc + 1) lv (pL v :: st)) : JW kT (bM G) (aM G) l D a Q mc ms0 w ce sl pc lv (pI i :: pR (some (G.2.1 k)) :: st) := by
  intro p e s m below meth c H locs ls X hr hlk hn hK hB hS hl
  have h9 := kk p e s m below meth c H locs ls X hr hlk hn hK hB hS hl
  obtain ⟨hi, hv⟩ := mald_some h
  obtain ⟨hk, ht, hm, -, -⟩ := hR
  have hc := hB.2.2.1 k hk
  unfold mC at hc
  rw [ht, hm] at hc
  have hlt : (jI i).toNatClampNeg < n := by rw [clamp_I]; omega
  subst hv
  refine W.lald X.1 X.2.1 hc (hB.1.2 4 (by decide) (by decide) n _) (fun q => by cases q) (by show ¬ (jI i < 0 ∨ (arrV _ _ _).slots.size ≤ _); rw [arrV_size]; exact in_I hi) (v := mv (pL (w.2 k (w32 i).toNat))) (by show (arrV _ _ _).slots[_]? = _; rw [arrV_read _ _ hlt, clamp_I]; rfl) rfl rfl hd h9
theorem bM_ast {u : Mu} {s : State} {H H1 : Heap} {k j : Nat} {v : Int} (hB : bM G u s H) (hk : mIs k) (h1 : H1[G.2.1 k]? = some (mC G (ma u k j v) k)) (oq : ∀ q : Nat, q ≠ G.2.1 k → H1[q]? = H[q]?) : bM G (ma u k j v) s H1 := by
  obtain ⟨hK, hO, hArr, hInj⟩ := hB
  refine ⟨hK, hO.kept (oq _ (fun z => (hInj k hk).1 z.symm)), fun i hi => ?_, hInj⟩
  by_cases hik : i = k
  · subst hik; exact h1
  · rw [oq _ (fun z => hik ((hInj k hk).2 i hi z)), hArr i hi]
    unfold mC ma va_up
    simp only [if_neg hik]
theorem m_iast {k n : Nat} {i v : Int} {w1 : Mu} (hR : mR k 1 n) (h : mast w k n i v = some w1) (hd : decode D.2.1 pc = .ok (.iastore, 1)) (kk : JW kT (bM G) (aM G) l D a Q mc ms0 w1 ce sl (pc + 1) lv st) : JW kT (bM G) (aM G) l D a Q mc ms0 w ce sl pc lv (pI v :: pI i :: pR (some (G.2.1 k)) :: st) := by
  intro p e s m below meth c H locs ls X hr hlk hn hK hB hS hl
  obtain ⟨hi, hv⟩ := mast_some h
  subst hv
  obtain ⟨hk, ht, hm, -, -⟩ := hR
  have hc := hB.2.2.1 k hk
  unfold mC at hc
  rw [ht, hm] at hc
  refine W.iast X.1 X.2.1 hc (hB.1.2 1 (by decide) (by decide) n _) (fun q => by cases q) (by show ¬ (jI i < 0 ∨ (arrV _ _ _).slots.size ≤ _); rw [arrV_size]; exact in_I hi) rfl rfl hd fun H1 e9 z9 oq => ?_
  refine kk p e s m below meth c H1 _ ls X hr hlk hn hK (bM_ast hB hk ?_ oq) (hS.put z9 oq (Or.inr ⟨k, hk, rfl⟩)) hl
  rw [e9, arrV_store]
  unfold mC
  rw [ht, hm]
  congr 2
  funext q
  unfold updV ma va_up
  rw [clamp_I]
  by_cases hq : q = (w32 i).toNat
  · subst hq
    simp only [if_true]
    try rfl
  · simp only [if_neg hq, if_true]
theorem m_bast {k n : Nat} {i v : Int} {w1 : Mu} (hR : mR k 2 n) (h : mast w k n i (w8 v) = some w1) (hd : decode D.2.1 pc = .ok (.bastore, 1)) (kk : JW kT (bM G) (aM G) l D a Q mc ms0 w1 ce sl (pc + 1) lv st) : JW kT (bM G) (aM G) l D a Q mc ms0 w ce sl pc lv (pI v :: pI i :: pR (some (G.2.1 k)) :: st) := by
  intro p e s m below meth c H locs ls X hr hlk hn hK hB hS hl
  obtain ⟨hi, hv⟩ := mast_some h
  subst hv
  obtain ⟨hk, ht, hm, -, -⟩ := hR
  have hc := hB.2.2.1 k hk
  unfold mC at hc
  rw [ht, hm] at hc
  refine W.bast X.1 X.2.1 hc (hB.1.2 2 (by decide) (by decide) n _) (fun q => by cases q) (by show ¬ (jI i < 0 ∨ (arrV _ _ _).slots.size ≤ _); rw [arrV_size]; exact in_I hi) rfl rfl hd fun H1 e9 z9 oq => ?_
  refine kk p e s m below meth c H1 _ ls X hr hlk hn hK (bM_ast hB hk ?_ oq) (hS.put z9 oq (Or.inr ⟨k, hk, rfl⟩)) hl
  rw [e9, arrV_store]
  unfold mC
  rw [ht, hm]
  congr 2
  funext q
  unfold updV ma va_up
  rw [clamp_I]
  by_cases hq : q = (w32 i).toNat
  · subst hq
    simp only [if_true]
    exact congrArg Value.int (I_i2b v)
  · simp only [if_neg hq, if_true]
theorem m_zast {k n : Nat} {i v : Int} {w1 : Mu} (hR : mR k 3 n) (h : mast w k n i (nz v) = some w1) (hd : decode D.2.1 pc = .ok (.bastore, 1)) (kk : JW kT (bM G) (aM G) l D a Q mc ms0 w1 ce sl (pc + 1) lv st) : JW kT (bM G) (aM G) l D a Q mc ms0 w ce sl pc lv (pI v :: pI i :: pR (some (G.2.1 k)) :: st) := by
  intro p e s m below meth c H locs ls X hr hlk hn hK hB hS hl
  obtain ⟨hi, hv⟩ := mast_some h
  subst hv
  obtain ⟨hk, ht, hm, -, -⟩ := hR
  have hc := hB.2.2.1 k hk
  unfold mC at hc
  rw [ht, hm] at hc
  refine W.zast X.1 X.2.1 hc (hB.1.2 3 (by decide) (by decide) n _) (fun q => by cases q) (by show ¬ (jI i < 0 ∨ (arrV _ _ _).slots.size ≤ _); rw [arrV_size]; exact in_I hi) rfl rfl hd fun H1 e9 z9 oq => ?_
  refine kk p e s m below meth c H1 _ ls X hr hlk hn hK (bM_ast hB hk ?_ oq) (hS.put z9 oq (Or.inr ⟨k, hk, rfl⟩)) hl
  rw [e9, arrV_store]
  unfold mC
  rw [ht, hm]
  congr 2
  funext q
  unfold updV ma va_up
  rw [clamp_I]
  by_cases hq : q = (w32 i).toNat
  · subst hq
    simp only [if_true]
    exact congrArg Value.int (Int32.ofInt_toInt _).symm
  · simp only [if_neg hq, if_true]
theorem m_last {k n : Nat} {i v : Int} {w1 : Mu} (hR : mR k 4 n) (h : mast w k n i v = some w1) (hd : decode D.2.1 pc = .ok (.lastore, 1)) (kk : JW kT (bM G) (aM G) l D a Q mc ms0 w1 ce sl (pc + 1) lv st) : JW kT (bM G) (aM G) l D a Q mc ms0 w ce sl pc lv (pL v :: pI i :: pR (some (G.2.1 k)) :: st) := by
  intro p e s m below meth c H locs ls X hr hlk hn hK hB hS hl
  obtain ⟨hi, hv⟩ := mast_some h
  subst hv
  obtain ⟨hk, ht, hm, -, -⟩ := hR
  have hc := hB.2.2.1 k hk
  unfold mC at hc
  rw [ht, hm] at hc
  refine W.last X.1 X.2.1 hc (hB.1.2 4 (by decide) (by decide) n _) (fun q => by cases q) (by show ¬ (jI i < 0 ∨ (arrV _ _ _).slots.size ≤ _); rw [arrV_size]; exact in_I hi) rfl rfl hd fun H1 e9 z9 oq => ?_
  refine kk p e s m below meth c H1 _ ls X hr hlk hn hK (bM_ast hB hk ?_ oq) (hS.put z9 oq (Or.inr ⟨k, hk, rfl⟩)) hl
  rw [e9, arrV_store]
  unfold mC
  rw [ht, hm]
  congr 2
  funext q
  unfold updV ma va_up
  rw [clamp_I]
  by_cases hq : q = (w32 i).toNat
  · subst hq
    simp only [if_true]
    try rfl
  · simp only [if_neg hq, if_true]
theorem m_recv (w : Mu) : jrecv (bM G) w G.1 RX5 := by
  intro s H hB
  obtain ⟨⟨⟨-, hfc, -⟩, -⟩, ⟨cell, q1, q2, q3, -⟩, -, -⟩ := hB
  exact ⟨cell, q1, by rw [q3]; rfl, by rw [q2]; exact hfc⟩
theorem m_puti_ {k idx : Nat} {z : Int} {w1 : Mu} (h : some (ms w k z) = some w1) (hf : mF k idx .int) (hw : mFw k) (hown : D.1 = RX5) (hd : decode D.2.1 pc = .ok (.putfield idx, 3)) (kk : JW kT (bM G) (aM G) l D a Q mc ms0 w1 ce sl (pc + 3) lv st) : JW kT (bM G) (aM G) l D a Q mc ms0 w ce sl pc lv (pI z :: pR (some G.1) :: st) := by
  cases h; exact m_puti hf hw hown hd kk
theorem m_putz_ {k idx : Nat} {z : Int} {w1 : Mu} (h : some (ms w k z) = some w1) (hz : narrow .boolean (.int (jI z)) = .int (jI z) ∧ fits .boolean (.int (jI z)) = true) (hf : mF k idx .boolean) (hw : mFw k) (hown : D.1 = RX5) (hd : decode D.2.1 pc = .ok (.putfield idx, 3)) (kk : JW kT (bM G) (aM G) l D a Q mc ms0 w1 ce sl (pc + 3) lv st) : JW kT (bM G) (aM G) l D a Q mc ms0 w ce sl pc lv (pI z :: pR (some G.1) :: st) := by
  cases h; exact m_putz hz hf hw hown hd kk
theorem m_putl_ {k idx : Nat} {z : Int} {w1 : Mu} (h : some (ms w k z) = some w1) (hf : mF k idx .long) (hw : mFw k) (hown : D.1 = RX5) (hd : decode D.2.1 pc = .ok (.putfield idx, 3)) (kk : JW kT (bM G) (aM G) l D a Q mc ms0 w1 ce sl (pc + 3) lv st) : JW kT (bM G) (aM G) l D a Q mc ms0 w ce sl pc lv (pL z :: pR (some G.1) :: st) := by
  cases h; exact m_putl hf hw hown hd kk
end MRows

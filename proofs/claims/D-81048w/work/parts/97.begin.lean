/-! THE CLASS'S HEAP AT THE LAW'S START (printed by gen_begin.py) -/
theorem b_exact {args : Array Value} {s : State} {t : Term} {cls : String} (h : (Cond.exactly t cls).before args s = true) : ∃ (a : Nat) (cell : Cell), t.eval args s none [] s = some (.ref a) ∧ s.heap[a]? = some cell ∧ s.vm.findClass cls = some cell.cls ∧ cell.vm.isStatics = false := by
  obtain ⟨a, c, cell, k, q1, q2, q3, q4, q5, q6, -⟩ := Cond.exactly_spec (args := args) (first := s) (o := none) (s := s) (idx := []) (t := t) (cls := cls) h
  exact ⟨a, cell, q1, q3, by rw [q6]; exact q2, q5⟩
theorem b_nm {vm : Vm} {A B : String} {c : ClassId} (h1 : vm.findClass A = some c) (h2 : vm.findClass B = some c) : A = B := by
  obtain ⟨k1, e1, n1⟩ := Vm.findClass_spec h1
  obtain ⟨k2, e2, n2⟩ := Vm.findClass_spec h2
  cases e1.symm.trans e2
  exact n1.symm.trans n2
/-- two cells of classes of other names lie apart -/
theorem b_ne {s : State} {A B : String} {a b : Nat} {x y : Cell} (hA : s.heap[a]? = some x) (hB : s.heap[b]? = some y) (h1 : s.vm.findClass A = some x.cls) (h2 : s.vm.findClass B = some y.cls) (hne : A ≠ B) : a ≠ b := by
  intro e
  subst e
  cases hA.symm.trans hB
  exact hne (b_nm h1 h2)
/-- an empty array of Objects -/
theorem b_arr0 {args : Array Value} {s : State} {t : Term} {cO : ClassId} (h1 : (Cond.exactly t "[Ljava/lang/Object;").before args s = true) (h2 : (Cond.arrayOf t (.object "java/lang/Object")).before args s = true) (h3 : (Cond.eq (.length t) (.int 0)).before args s = true) (hO : s.vm.findClass "[Ljava/lang/Object;" = some cO) :
    ∃ (a : Nat) (cell : Cell), t.eval args s none [] s = some (.ref a) ∧ s.heap[a]? = some cell ∧ cell.cls = cO ∧ s.isArrayOf cell (.object "java/lang/Object") ∧ ∀ V, aOb s.heap.size a cO 0 V s.heap := by
  obtain ⟨a, cell, ht, hat, hv⟩ := Term.length_spec (va_eqt h3)
  obtain ⟨hcell, hkn, -, -⟩ := State.arrayAt?_spec hat
  obtain ⟨hof, -⟩ := Cond.arrayOf_spec h2 ht hcell
  obtain ⟨a', cell', q1, q2, q3, q4⟩ := b_exact h1
  cases ht.symm.trans q1
  cases hcell.symm.trans q2
  have hc : cell.cls = cO := Option.some.inj (q3.symm.trans hO)
  exact ⟨a, cell, ht, hcell, hc, hof, fun V => ⟨cell, hcell, hc, hkn, hof.1, Nat.zero_le _, (Value.int.inj hv).symm, fun j hj => absurd hj (Nat.not_lt_zero _), fun h => absurd (Array.getElem?_eq_some_iff.mp hcell).1 (by omega)⟩⟩
/-- the cache of small Longs -/
theorem b_lc {args : Array Value} {s : State} {t : Term} (hc : t.closed = true) (h1 : (Cond.arrayOf t (.object "java/lang/Long")).before args s = true) (h2 : (Cond.eq (.length t) (.int 256)).before args s = true)
    (h3 : (Cond.all t (.and (.exactly (.elem t (.index 0)) "java/lang/Long") (.eq (.field (.elem t (.index 0)) "java/lang/Long" "value" "J") (.op1 .i2l (.sub (.index 0) (.int 128)))))).before args s = true) :
    ∃ (a : Nat) (cell : Cell) (lo : Nat → Nat), t.eval args s none [] s = some (.ref a) ∧ s.heap[a]? = some cell ∧ s.isArrayOf cell (.object "java/lang/Long") ∧ cell.vm ≠ .unknown ∧ 256 ≤ cell.slots.size ∧ cell.slots.size.toInt32 = Int32.ofNat 256 ∧
      (∀ k, k < cell.slots.size → ∃ x, cell.slots[k]? = some (.ref x)) ∧
      ∀ k, k < 256 → cell.slots[k]? = some (.ref (lo k)) ∧ ∃ x : Cell, s.heap[lo k]? = some x ∧ s.vm.findClass "java/lang/Long" = some x.cls ∧ x.vm.isStatics = false ∧ x.vm ≠ .unknown ∧ ∃ (cf : ClassId) (kf : Class) (fi : Nat) (f : Field), s.fieldFound? "java/lang/Long" "value" "J" = some (cf, kf, fi, f) ∧ x.slots[f.slot]? = some (.long (jL ((k : Int) - 128))) := by
  obtain ⟨b, cell, ht, hat, hv⟩ := Term.length_spec (va_eqt h2)
  obtain ⟨hcell, hkn, -, -⟩ := State.arrayAt?_spec hat
  obtain ⟨hof, -⟩ := Cond.arrayOf_spec h1 ht hcell
  have hsz : ∀ k : Nat, k < 256 → k < cell.slots.size := by
    intro k hk
    apply Nat.not_le.mp
    intro hle
    have e : Int32.ofNat cell.slots.size = Int32.ofNat 256 := (Value.int.inj hv).symm
    have h1 : (Int32.ofNat cell.slots.size).toNatClampNeg = cell.slots.size := Int32.toNatClampNeg_ofNat_of_lt (by omega)
    have h2 : (Int32.ofNat 256).toNatClampNeg = 256 := Int32.toNatClampNeg_ofNat_of_lt (by omega)
    rw [e, h2] at h1
    omega
  have hall' := Cond.all_elim ht hat (by simpa [Cond.before, Cond.holds] using h3)
  have key : ∀ k, k < cell.slots.size → ∃ x, (Term.elem t (.index 0)).eval args s none [k] s = some (.ref x) ∧ ¬ Int32.ofNat k < 0 ∧ cell.slots[(Int32.ofNat k).toNatClampNeg]? = some (.ref x) := by
    intro k hk
    obtain ⟨hE, -⟩ := va_andE (hall' k hk)
    obtain ⟨a, c, cA, kA, q1, -⟩ := Cond.exactly_spec (args := args) (first := s) (o := none) (s := s) (idx := [k]) (t := .elem t (.index 0)) (cls := "java/lang/Long") (by simp [Cond.holds, hE])
    obtain ⟨a', j, cell', r1, r2, r3, r4, r5⟩ := Term.elem_spec q1
    rw [Term.eval_closed none [k] t s hc] at r1
    cases ht.symm.trans r1
    cases hat.symm.trans r3
    have hj : j = Int32.ofNat k := by
      have e : (Term.index 0).eval args s none [k] s = some (.int (Int32.ofNat k)) := rfl
      cases r2.symm.trans e
      rfl
    subst hj
    exact ⟨a, q1, fun h => r4 (Or.inl h), r5⟩
  have h31 : cell.slots.size ≤ 2147483648 := by
    apply Nat.not_lt.mp
    intro hlt
    obtain ⟨x, -, h, -⟩ := key 2147483648 hlt
    exact h (by decide)
  have hel : ∀ k, k < cell.slots.size → ∃ x, cell.slots[k]? = some (.ref x) := by
    intro k hk
    obtain ⟨x, -, -, h⟩ := key k hk
    rw [Int32.toNatClampNeg_ofNat_of_lt (by omega)] at h
    exact ⟨x, h⟩
  have hval : ∀ k : Nat, k < 256 → (Int32.ofNat k - 128).toInt64 = jL ((k : Int) - 128) := by decide +kernel
  have h0 : ∀ k : Nat, ∃ a : Nat, k < 256 → cell.slots[k]? = some (.ref a) ∧ ∃ x : Cell, s.heap[a]? = some x ∧ s.vm.findClass "java/lang/Long" = some x.cls ∧ x.vm.isStatics = false ∧ x.vm ≠ .unknown ∧ ∃ (cf : ClassId) (kf : Class) (fi : Nat) (f : Field), s.fieldFound? "java/lang/Long" "value" "J" = some (cf, kf, fi, f) ∧ x.slots[f.slot]? = some (.long (jL ((k : Int) - 128))) := by
    intro k
    by_cases hk : k < 256
    · obtain ⟨hE, hF⟩ := va_andE (hall' k (hsz k hk))
      obtain ⟨a, c, cA, kA, q1, q2, q3, q4, q5, q6, -⟩ := Cond.exactly_spec (args := args) (first := s) (o := none) (s := s) (idx := [k]) (t := .elem t (.index 0)) (cls := "java/lang/Long") (by simp [Cond.holds, hE])
      have hfv := va_eqI hF (v := .long ((Int32.ofNat k - 128).toInt64)) rfl
      rw [hval k hk] at hfv
      obtain ⟨x, y1, -, y3⟩ := key k (hsz k hk)
      cases y1.symm.trans q1
      rw [Int32.toNatClampNeg_ofNat_of_lt (by omega)] at y3
      cases hfo : s.fieldFound? "java/lang/Long" "value" "J" with
      | none =>
        rw [va_fe q1] at hfv
        simp [State.fieldOf?, State.fieldNamed?, hfo] at hfv
      | some z =>
        obtain ⟨cf, kf, fi, f⟩ := z
        obtain ⟨g1, cell2, g2, g3, -, -, g6⟩ := Term.field_spec hfo q1 hfv
        cases q3.symm.trans g2
        exact ⟨a, fun _ => ⟨y3, cA, q3, by rw [q6]; exact q2, q5, g3, cf, kf, fi, f, rfl, g6⟩⟩
    · exact ⟨0, fun h => absurd h hk⟩
  obtain ⟨lo, hlo⟩ := Classical.axiomOfChoice h0
  exact ⟨b, cell, lo, ht, hcell, hof, hkn, by have := hsz 255 (by decide); omega, (Value.int.inj hv).symm, hel, fun k hk => hlo k hk⟩
theorem fnd_1 {n a k : Nat} {f : Nat → Nat} (h : (List.range n).find? (fun j => f j == a) = some k) : k < n ∧ f k = a := ⟨List.mem_range.mp (List.mem_of_find?_eq_some h), by simpa using List.find?_some h⟩
theorem fnd_2 {n k : Nat} {f : Nat → Nat} (hk : k < n) (inj : ∀ i j, i < n → j < n → f i = f j → i = j) : (List.range n).find? (fun j => f j == f k) = some k := by
  cases h : (List.range n).find? (fun j => f j == f k) with
  | none => exact absurd (List.find?_eq_none.mp h k (List.mem_range.mpr hk)) (by simp)
  | some k' =>
    obtain ⟨h1, h2⟩ := fnd_1 h
    rw [inj k' k h1 hk h2]
theorem fnd_3 {n a : Nat} {f : Nat → Nat} (h : ∀ k, k < n → f k ≠ a) : (List.range n).find? (fun j => f j == a) = none := List.find?_eq_none.mpr (fun j hj => by simpa using h j (List.mem_range.mp hj))
def u_0 (sg : Nat → Nat) (e6 e7 lc : Nat) (lo : Nat → Nat) (N : Nat) : Sg :=
  (fun a => match (List.range 6).find? (fun k => sg k == a) with
    | some k => 23 + k
    | none => if a = e6 ∨ a = e7 then 105 else if a = lc then 106 else match (List.range 256).find? (fun k => lo k == a) with | some _ => 29 | none => 0,
  fun a => if a = lc then 256 else 0,
  fun a _ => match (List.range 256).find? (fun k => lo k == a) with | some k => (k : Int) - 128 | none => 0,
  fun _ _ => none, fun _ _ => 0, fun a i => if a = lc ∧ i < 256 then some (lo i) else none, N)
theorem u0_s {sg : Nat → Nat} {e6 e7 lc N a k : Nat} {lo : Nat → Nat} (h : (List.range 6).find? (fun j => sg j == a) = some k) : zT (u_0 sg e6 e7 lc lo N) a = 23 + k := by
  unfold zT u_0
  simp only [h]
theorem u0_n {sg : Nat → Nat} {e6 e7 lc N a : Nat} {lo : Nat → Nat} (h : (List.range 6).find? (fun j => sg j == a) = none) : zT (u_0 sg e6 e7 lc lo N) a = if a = e6 ∨ a = e7 then 105 else if a = lc then 106 else match (List.range 256).find? (fun k => lo k == a) with | some _ => 29 | none => 0 := by
  unfold zT u_0
  simp only [h]
theorem u0_c {sg : Nat → Nat} {e6 e7 lc N : Nat} {lo : Nat → Nat} (a : Nat) : (∃ k, k < 6 ∧ sg k = a ∧ zT (u_0 sg e6 e7 lc lo N) a = 23 + k) ∨ ((a = e6 ∨ a = e7) ∧ zT (u_0 sg e6 e7 lc lo N) a = 105) ∨ (a = lc ∧ zT (u_0 sg e6 e7 lc lo N) a = 106) ∨ (∃ k, k < 256 ∧ lo k = a ∧ (List.range 256).find? (fun k => lo k == a) = some k ∧ zT (u_0 sg e6 e7 lc lo N) a = 29) ∨ zT (u_0 sg e6 e7 lc lo N) a = 0 := by
  cases hf : (List.range 6).find? (fun j => sg j == a) with
  | some k => exact Or.inl ⟨k, (fnd_1 hf).1, (fnd_1 hf).2, u0_s hf⟩
  | none =>
    have h := u0_n (e6 := e6) (e7 := e7) (lc := lc) (N := N) (lo := lo) hf
    by_cases h1 : a = e6 ∨ a = e7
    · rw [if_pos h1] at h; exact Or.inr (Or.inl ⟨h1, h⟩)
    · rw [if_neg h1] at h
      by_cases h2 : a = lc
      · rw [if_pos h2] at h; exact Or.inr (Or.inr (Or.inl ⟨h2, h⟩))
      · rw [if_neg h2] at h
        cases hg : (List.range 256).find? (fun k => lo k == a) with
        | some k =>
          simp only [hg] at h
          exact Or.inr (Or.inr (Or.inr (Or.inl ⟨k, (fnd_1 hg).1, (fnd_1 hg).2, rfl, h⟩)))
        | none =>
          simp only [hg] at h
          exact Or.inr (Or.inr (Or.inr (Or.inr h)))
def gS (sg : Nat → Nat) (e6 e7 lc : Nat) (un su : Option Nat) (m9 m10 : Nat) : Nat → Option Nat := fun k => match k with
  | 0 => some (sg 0)
  | 1 => some (sg 1)
  | 2 => some (sg 2)
  | 3 => some (sg 3)
  | 4 => some (sg 4)
  | 5 => some (sg 5)
  | 6 => some e6
  | 7 => some e7
  | 8 => some lc
  | 9 => un
  | 10 => su
  | 21 => some m9
  | 22 => some m10
  | _ => none
def sgT (k : Nat) : Term := .static "CoverHouse$Sign" (match k with | 0 => "SAME" | 1 => "BELOW" | 2 => "ABOVE" | 3 => "MOST" | 4 => "LEAST" | _ => "OTHER") "LCoverHouse$Sign;"
def eT6 : Term := .static "java/util/ArrayList" "DEFAULTCAPACITY_EMPTY_ELEMENTDATA" "[Ljava/lang/Object;"
def eT7 : Term := .static "java/util/ArrayList" "EMPTY_ELEMENTDATA" "[Ljava/lang/Object;"
def lcT : Term := .static "java/lang/Long$LongCache" "cache" "[Ljava/lang/Long;"
def b_nw : Cond := .and given_1 narrow_1
theorem b_sg : ∀ k, k < 6 → (Cond.exactly (sgT k) (sgN k)) ∈ flatC b_nw ∧ (Cond.eq (.field (sgT k) "java/lang/Enum" "ordinal" "I") (.int (Int32.ofNat k))) ∈ flatC b_nw := by decide +kernel
theorem sgN_i : ∀ j k, j < 6 → k < 6 → sgN j = sgN k → j = k := by
  have h : ∀ j, j < 6 → ∀ k, k < 6 → sgN j = sgN k → j = k := by decide +kernel
  exact fun j k h1 h2 => h j h1 k h2
theorem sgN_o : ∀ k, k < 6 → sgN k ≠ "[Ljava/lang/Object;" ∧ sgN k ≠ "java/lang/Long" := by decide +kernel
theorem b_l : (Cond.exactly eT6 "[Ljava/lang/Object;") ∈ flatC b_nw ∧ (Cond.arrayOf eT6 (.object "java/lang/Object")) ∈ flatC b_nw ∧ (Cond.eq (.length eT6) (.int 0)) ∈ flatC b_nw ∧ (Cond.exactly eT7 "[Ljava/lang/Object;") ∈ flatC b_nw ∧ (Cond.arrayOf eT7 (.object "java/lang/Object")) ∈ flatC b_nw ∧ (Cond.eq (.length eT7) (.int 0)) ∈ flatC b_nw ∧ (Cond.arrayOf lcT (.object "java/lang/Long")) ∈ flatC b_nw ∧ (Cond.eq (.length lcT) (.int 256)) ∈ flatC b_nw ∧
    (Cond.all lcT (.and (.exactly (.elem lcT (.index 0)) "java/lang/Long") (.eq (.field (.elem lcT (.index 0)) "java/lang/Long" "value" "J") (.op1 .i2l (.sub (.index 0) (.int 128)))))) ∈ flatC b_nw ∧ (Cond.isRef (.static "java/lang/Throwable" "UNASSIGNED_STACK" "[Ljava/lang/StackTraceElement;")) ∈ flatC b_nw ∧ (Cond.isRef (.static "java/lang/Throwable" "SUPPRESSED_SENTINEL" "Ljava/util/List;")) ∈ flatC b_nw ∧ (Cond.isRef (.mirror "[Ljava/lang/Object;")) ∈ flatC b_nw ∧ (Cond.isRef (.mirror "java/util/ArrayList")) ∈ flatC b_nw ∧ (Cond.isRef (.static "jdk/internal/util/Preconditions" "SIOOBE_FORMATTER" "Ljava/util/function/BiFunction;")) ∈ flatC b_nw ∧ (Cond.eq (.static "java/lang/String" "COMPACT_STRINGS" "Z") (.int 1)) ∈ flatC b_nw ∧
    (Cond.not (.eq eT6 eT7)) ∈ flatC b_nw := by decide +kernel
theorem b_str : (Cond.exactly (.string "CoverHouseModel" 283) "java/lang/String") ∈ flatC b_nw ∧ (Cond.eq (.field (.string "CoverHouseModel" 283) "java/lang/String" "coder" "B") (.int 0)) ∈ flatC b_nw ∧ (Cond.arrayOf (.field (.string "CoverHouseModel" 283) "java/lang/String" "value" "[B") .byte) ∈ flatC b_nw ∧ (Cond.eq (.length (.field (.string "CoverHouseModel" 283) "java/lang/String" "value" "[B")) (.int 149)) ∈ flatC b_nw := by decide +kernel
theorem b_chr : ∀ j, j < 149 → (Cond.eq (.elem (.field (.string "CoverHouseModel" 283) "java/lang/String" "value" "[B") (.int (Int32.ofNat j))) (.int (jI (sBi.getD j 0)))) ∈ flatC b_nw := by decide +kernel
theorem b_Zq {C n d : String} {A : Nat → Prop} {U : State} {H : Heap} (h : va_Zq C n d A U H) : ∃ o : Option Nat, va_Z C n d (va_rf o) A U H := by
  rcases h with h | ⟨t, h⟩
  · exact ⟨none, h⟩
  · exact ⟨some t, h⟩
section
variable {s : State} {args : Array Value}
/-- the String constant and what charAt needs -/
theorem s_str {A : Nat → Prop} (ht : ∀ w ∈ lw_tbl, w.before args s = true) (hs : ∀ c ∈ flatC b_nw, c.before args s = true) (hA : ∀ a : Nat, a < s.heap.size → ¬ A a) : ∃ (aK aV : Nat) (f : Option Nat), bS A aK aV f () s s.heap ∧ vk_R RX5 283 sTx aK s := by
  obtain ⟨l1, l2, l3, l4⟩ := b_str
  obtain ⟨-, -, -, -, -, -, -, -, -, -, -, -, -, l5, l6, -⟩ := b_l
  obtain ⟨aK, cell, q1, q2, q3, q4⟩ := b_exact (hs _ l1)
  obtain ⟨aV, hv, hT⟩ := va_Tof (f := fun j => .int (jI (sBi.getD j 0))) (A := A) (N := 149) (by decide) (hs _ l3) (va_eqt (hs _ l4)) (fun j hj => va_eqt (hs _ (b_chr j hj))) hA
  obtain ⟨f, hf⟩ := b_Zq (va_Zqof (A := A) (ht _ q1814) (ht _ (lw_all_tbl q143)) (hs _ l5) hA)
  exact ⟨aK, aV, f, ⟨⟨cell, q2, q4, q3, hA _ (Array.getElem?_eq_some_iff.mp q2).1⟩, vk_OFof q1 (va_eqt (hs _ l2)) hA, vk_OFof q1 hv hA, hT, va_Zof (ht _ q1806) (ht _ (lw_all_tbl q141)) (va_eqt (hs _ l6)) hA, hf⟩, vk_R.of (ht _ q1796) q1⟩
/-- the words that ride in no list -/
theorem s_kC (ht : ∀ w ∈ lw_tbl, w.before args s = true) : kC s := by
  refine ⟨fun w hw hk => va_Nw.of ?_ (ht w hw), va_AO.of (ht _ q392), fun q hq => ?_⟩
  · cases w <;> first | rfl | cases hk
  · unfold ifL at hq
    simp only [List.mem_cons, List.mem_nil_iff, or_false] at hq
    rcases hq with rfl | rfl | rfl | rfl | rfl | rfl
    · exact va_Fw.of (ht _ q558) (ht _ q557) (ht _ q562) (ht _ q560) (ht _ q324)
    · exact va_Fw.of (ht _ q812) (ht _ q811) (ht _ q816) (ht _ q814) (ht _ q324)
    · exact va_Fw.of (ht _ q323) (ht _ q322) (ht _ q328) (ht _ q326) (ht _ q324)
    · exact va_Fw.of (ht _ q1281) (ht _ q1280) (ht _ q1285) (ht _ q1283) (ht _ q324)
    · exact va_Fw.of (ht _ q1323) (ht _ q1322) (ht _ q1327) (ht _ q1325) (ht _ q324)
    · exact va_Fw.of (ht _ q1290) (ht _ q1289) (ht _ q1295) (ht _ q1293) (ht _ q1291)
end
section
variable {s : State} {args : Array Value}
/-- the class's heap at the start -/
theorem s_begin (ht : ∀ w ∈ lw_tbl, w.before args s = true) (hs : ∀ c ∈ flatC b_nw, c.before args s = true) : ∃ (G : CG) (u0 : Sg) (bE : Nat), G.2.2.2.1 = s.heap.size ∧ bC G (fun q => G.2.2.2.1 ≤ q) u0 s s.heap ∧ zN u0 = s.heap.size ∧
    ((∀ k, k < 6 → ∃ a, G.2.2.2.2 k = some a ∧ a < G.2.2.2.1 ∧ zT u0 a = 23 + k) ∧ (∃ b, G.2.2.2.2 6 = some b ∧ b < G.2.2.2.1 ∧ zT u0 b = 105 ∧ zL u0 b = 0 ∧ ∀ i, zB u0 b i = none) ∧ (∃ b, G.2.2.2.2 7 = some b ∧ b < G.2.2.2.1 ∧ zT u0 b = 105 ∧ zL u0 b = 0 ∧ ∀ i, zB u0 b i = none) ∧ ∃ c, G.2.2.2.2 8 = some c ∧ c < G.2.2.2.1 ∧ zT u0 c = 106 ∧ zL u0 c = 256 ∧ ∀ k, k < 256 → ∃ x, zB u0 c k = some x ∧ x < G.2.2.2.1 ∧ zT u0 x = 29 ∧ zI u0 x 1120 = (k : Int) - 128) ∧
    (G.2.2.2.2 6 = some bE ∧ bE < G.2.2.2.1 ∧ zT u0 bE = 105 ∧ zL u0 bE = 0 ∧ ∀ i, zB u0 bE i = none) := by
  have hta : ∀ w ∈ lw_all, w.before args s = true := fun w h => ht w (lw_all_tbl h)
  have hA : ∀ a : Nat, a < s.heap.size → ¬ s.heap.size ≤ a := fun a h => by omega
  obtain ⟨l1, l2, l3, l4, l5, l6, l7, l8, l9, l10, l11, l12, l13, l14, l15, l16⟩ := b_l
  obtain ⟨comp, cO, kO, o1, -, o3, o4, o5⟩ := Cond.arrayOver_spec (args := args) (first := s) (o := none) (s := s) (idx := []) (n := "java/lang/Object") (ht _ q392)
  have hcO : s.vm.findClass "[Ljava/lang/Object;" = some cO := o5
  obtain ⟨cI, kI, mI, i1, i2, i3⟩ := Cond.arrayClass_spec (args := args) (first := s) (o := none) (s := s) (idx := []) (ht _ (lw_all_tbl q255))
  obtain ⟨cB, kB, mB, b1, b2, b3⟩ := Cond.arrayClass_spec (args := args) (first := s) (o := none) (s := s) (idx := []) (ht _ (lw_all_tbl q235))
  obtain ⟨cZ, kZ, mZ, z1, z2, z3⟩ := Cond.arrayClass_spec (args := args) (first := s) (o := none) (s := s) (idx := []) (ht _ (lw_all_tbl q256))
  obtain ⟨cJ, kJ, mJ, j1, j2, j3⟩ := Cond.arrayClass_spec (args := args) (first := s) (o := none) (s := s) (idx := []) (ht _ (lw_all_tbl q234))
  have mk : ∀ {c : ClassId} {k : Class} {m : ClassId} {ty : FieldType}, s.vm.classes[c]? = some k → k.kind = .array m ty → ArrOfT s c ty := fun h1 h2 n z => ⟨(fun _ q => nomatch q), _, h1, _, h2⟩
  -- the classes
  have h0 : ∀ c : Nat, ∃ r : ClassId × (Nat → Nat), ∀ q, clL[c]? = some q → u_Kn s q.1 q.2.1 q.2.2 r.1 r.2 := by
    intro c
    match c with
    | 0 => obtain ⟨c, i, h⟩ := u_known (C := RX0) (T := TX0) hta in_X0 (hta _ zmk_0.1); exact ⟨(c, i), fun q hq => by cases hq; exact h⟩
    | 1 => obtain ⟨c, i, h⟩ := u_known (C := RX1) (T := TX1) hta in_X1 (hta _ zmk_1.1); exact ⟨(c, i), fun q hq => by cases hq; exact h⟩
    | 2 => obtain ⟨c, i, h⟩ := u_known (C := RX2) (T := TX2) hta in_X2 (hta _ zmk_2.1); exact ⟨(c, i), fun q hq => by cases hq; exact h⟩
    | 3 => obtain ⟨c, i, h⟩ := u_known (C := RX3) (T := TX3) hta in_X3 (hta _ zmk_3.1); exact ⟨(c, i), fun q hq => by cases hq; exact h⟩
    | 4 => obtain ⟨c, i, h⟩ := u_known (C := RX4) (T := TX4) hta in_X4 (hta _ zmk_4.1); exact ⟨(c, i), fun q hq => by cases hq; exact h⟩
    | 5 => obtain ⟨c, i, h⟩ := u_known (C := RJ2) (T := TJ2) hta in_J2 (hta _ zmk_5.1); exact ⟨(c, i), fun q hq => by cases hq; exact h⟩
    | 6 => obtain ⟨c, i, h⟩ := u_known (C := RX6) (T := TX6) hta in_X6 (hta _ zmk_6.1); exact ⟨(c, i), fun q hq => by cases hq; exact h⟩
    | 7 => obtain ⟨c, i, h⟩ := u_known (C := RX7) (T := TX7) hta in_X7 (hta _ zmk_7.1); exact ⟨(c, i), fun q hq => by cases hq; exact h⟩
    | 8 => obtain ⟨c, i, h⟩ := u_known (C := RX8) (T := TX8) hta in_X8 (hta _ zmk_8.1); exact ⟨(c, i), fun q hq => by cases hq; exact h⟩
    | 9 => obtain ⟨c, i, h⟩ := u_known (C := RX9) (T := TX9) hta in_X9 (hta _ zmk_9.1); exact ⟨(c, i), fun q hq => by cases hq; exact h⟩
    | 10 => obtain ⟨c, i, h⟩ := u_known (C := RX1) (T := TX1) hta in_X1 (hta _ zmk_1.1); exact ⟨(c, i), fun q hq => by cases hq; exact h⟩
    | 11 => obtain ⟨c, i, h⟩ := u_known (C := RX11) (T := TX11) hta in_X11 (hta _ zmk_11.1); exact ⟨(c, i), fun q hq => by cases hq; exact h⟩
    | 12 => obtain ⟨c, i, h⟩ := u_known (C := RX12) (T := TX12) hta in_X12 (hta _ zmk_12.1); exact ⟨(c, i), fun q hq => by cases hq; exact h⟩
    | 13 => obtain ⟨c, i, h⟩ := u_known (C := RX13) (T := TX13) hta in_X13 (hta _ zmk_13.1); exact ⟨(c, i), fun q hq => by cases hq; exact h⟩
    | 14 => obtain ⟨c, i, h⟩ := u_known (C := RX14) (T := TX14) hta in_X14 (hta _ zmk_14.1); exact ⟨(c, i), fun q hq => by cases hq; exact h⟩
    | 15 => obtain ⟨c, i, h⟩ := u_known (C := RX15) (T := TX15) hta in_X15 (hta _ zmk_15.1); exact ⟨(c, i), fun q hq => by cases hq; exact h⟩
    | 16 => obtain ⟨c, i, h⟩ := u_known (C := RX16) (T := TX16) hta in_X16 (hta _ zmk_16.1); exact ⟨(c, i), fun q hq => by cases hq; exact h⟩
    | 17 => obtain ⟨c, i, h⟩ := u_known (C := RX17) (T := TX17) hta in_X17 (hta _ zmk_17.1); exact ⟨(c, i), fun q hq => by cases hq; exact h⟩
    | 18 => obtain ⟨c, i, h⟩ := u_known (C := RX18) (T := TX18) hta in_X18 (hta _ zmk_18.1); exact ⟨(c, i), fun q hq => by cases hq; exact h⟩
    | 19 => obtain ⟨c, i, h⟩ := u_known (C := RX19) (T := TX19) hta in_X19 (hta _ zmk_19.1); exact ⟨(c, i), fun q hq => by cases hq; exact h⟩
    | 20 => obtain ⟨c, i, h⟩ := u_known (C := RX20) (T := TX20) hta in_X20 (hta _ zmk_20.1); exact ⟨(c, i), fun q hq => by cases hq; exact h⟩
    | 21 => obtain ⟨c, i, h⟩ := u_known (C := RX21) (T := TX21) hta in_X21 (hta _ zmk_21.1); exact ⟨(c, i), fun q hq => by cases hq; exact h⟩
    | 22 => obtain ⟨c, i, h⟩ := u_known (C := RX1) (T := TX1) hta in_X1 (hta _ zmk_1.1); exact ⟨(c, i), fun q hq => by cases hq; exact h⟩
    | 23 => obtain ⟨c, i, h⟩ := u_known (C := RX1) (T := TX1) hta in_X1 (hta _ zmk_1.1); exact ⟨(c, i), fun q hq => by cases hq; exact h⟩
    | 24 => obtain ⟨c, i, h⟩ := u_known (C := RX1) (T := TX1) hta in_X1 (hta _ zmk_1.1); exact ⟨(c, i), fun q hq => by cases hq; exact h⟩
    | 25 => obtain ⟨c, i, h⟩ := u_known (C := RX1) (T := TX1) hta in_X1 (hta _ zmk_1.1); exact ⟨(c, i), fun q hq => by cases hq; exact h⟩
    | 26 => obtain ⟨c, i, h⟩ := u_known (C := RX1) (T := TX1) hta in_X1 (hta _ zmk_1.1); exact ⟨(c, i), fun q hq => by cases hq; exact h⟩
    | 27 => obtain ⟨c, i, h⟩ := u_known (C := RX1) (T := TX1) hta in_X1 (hta _ zmk_1.1); exact ⟨(c, i), fun q hq => by cases hq; exact h⟩
    | 28 => obtain ⟨c, i, h⟩ := u_known (C := RJ15) (T := TJ15) hta in_J15 (hta _ zmk_28.1); exact ⟨(c, i), fun q hq => by cases hq; exact h⟩
    | c + 29 => exact ⟨(0, fun _ => 0), fun q hq => by simp [clL] at hq⟩
  obtain ⟨cl, hcl⟩ := Classical.axiomOfChoice h0
  -- the constants
  have h1 : ∀ k : Nat, ∃ a : Nat, k < 6 → (sgT k).eval args s none [] s = some (.ref a) ∧ ∃ cell : Cell, s.heap[a]? = some cell ∧ s.vm.findClass (sgN k) = some cell.cls ∧ cell.vm.isStatics = false ∧ ∃ (i : Nat) (v : Int32), cell.slots[i]? = some (.int v) := by
    intro k
    by_cases hk : k < 6
    · obtain ⟨p1, p2⟩ := b_sg k hk
      obtain ⟨a, cell, q1, q2, q3, q4⟩ := b_exact (hs _ p1)
      have hv := va_eqt (hs _ p2)
      cases hfo : s.fieldFound? "java/lang/Enum" "ordinal" "I" with
      | none =>
        rw [va_fe q1] at hv
        simp [State.fieldOf?, State.fieldNamed?, hfo] at hv
      | some z =>
        obtain ⟨cf, kf, fi, f⟩ := z
        obtain ⟨g1, cell2, g2, g3, -, -, g6⟩ := Term.field_spec hfo q1 hv
        cases q2.symm.trans g2
        exact ⟨a, fun _ => ⟨q1, cell, q2, q3, q4, f.slot, _, g6⟩⟩
    · exact ⟨0, fun h => absurd h hk⟩
  obtain ⟨sg, hsg⟩ := Classical.axiomOfChoice h1
  obtain ⟨e6, x6, y61, y62, y63, y64, y65⟩ := b_arr0 (hs _ l1) (hs _ l2) (hs _ l3) hcO
  obtain ⟨e7, x7, y71, y72, y73, y74, y75⟩ := b_arr0 (hs _ l4) (hs _ l5) (hs _ l6) hcO
  obtain ⟨lc, xl, lo, c1, c2, c3, c4, c5, c6, c7, c8⟩ := b_lc (t := lcT) rfl (hs _ l7) (hs _ l8) (hs _ l9)
  have zun := vx_Zqof (A := fun q => s.heap.size ≤ q) (ht _ q694) (ht _ (lw_all_tbl q147)) (hs _ l10) hA
  have zsu := vx_Zqof (A := fun q => s.heap.size ≤ q) (ht _ q696) (ht _ (lw_all_tbl q147)) (hs _ l11) hA
  obtain ⟨un, hun⟩ := b_Zq zun.1
  obtain ⟨su, hsu⟩ := b_Zq zsu.1
  obtain ⟨m9, hm9⟩ := va_Mi.of (hs _ l12)
  obtain ⟨m10, hm10⟩ := va_Mi.of (hs _ l13)
  have lt : ∀ {a : Nat} {x : Cell}, s.heap[a]? = some x → a < s.heap.size := fun h => (Array.getElem?_eq_some_iff.mp h).1
  -- apart
  have n67 : e6 ≠ e7 := va_neR (hs _ l16) y61 y71
  have hx6 : s.vm.findClass "[Ljava/lang/Object;" = some x6.cls := by rw [y63]; exact hcO
  have hx7 : s.vm.findClass "[Ljava/lang/Object;" = some x7.cls := by rw [y73]; exact hcO
  have sgi : ∀ i j, i < 6 → j < 6 → sg i = sg j → i = j := by
    intro i j hi hj e
    obtain ⟨-, x, a1, a2, -⟩ := hsg i hi
    obtain ⟨-, y, b1, b2, -⟩ := hsg j hj
    rw [e] at a1
    cases a1.symm.trans b1
    exact sgN_i i j hi hj (b_nm a2 b2)
  have s6 : ∀ k, k < 6 → sg k ≠ e6 := fun k hk => by
    obtain ⟨-, x, a1, a2, -⟩ := hsg k hk
    exact b_ne a1 y62 a2 hx6 (sgN_o k hk).1
  have s7 : ∀ k, k < 6 → sg k ≠ e7 := fun k hk => by
    obtain ⟨-, x, a1, a2, -⟩ := hsg k hk
    exact b_ne a1 y72 a2 hx7 (sgN_o k hk).1
  have sl : ∀ k, k < 6 → sg k ≠ lc := fun k hk e => by
    obtain ⟨-, x, a1, a2, a3, i, v, a4⟩ := hsg k hk
    rw [e] at a1
    cases a1.symm.trans c2
    obtain ⟨z, hz⟩ := c7 i (Array.getElem?_eq_some_iff.mp a4).1
    cases a4.symm.trans hz
  have so : ∀ k j, k < 6 → j < 256 → sg k ≠ lo j := fun k j hk hj => by
    obtain ⟨-, x, a1, a2, -⟩ := hsg k hk
    obtain ⟨-, y, b1, b2, -⟩ := c8 j hj
    exact b_ne a1 b1 a2 b2 (sgN_o k hk).2
  have kindL : ∀ {x : Cell}, s.isArrayOf x (.object "java/lang/Object") → s.isArrayOf x (.object "java/lang/Long") → False := by
    intro x h1 h2
    obtain ⟨-, k, e1, m, e2⟩ := h1
    obtain ⟨-, k', e3, m', e4⟩ := h2
    cases e1.symm.trans e3
    rw [e2] at e4
    exact absurd (FieldType.object.inj (Kind.array.inj e4).2) (by decide)
  have l6' : lc ≠ e6 := fun e => by
    rw [e] at c2
    cases c2.symm.trans y62
    exact kindL y64 c3
  have l7' : lc ≠ e7 := fun e => by
    rw [e] at c2
    cases c2.symm.trans y72
    exact kindL y74 c3
  have o6 : ∀ j, j < 256 → lo j ≠ e6 := fun j hj => by
    obtain ⟨-, y, b1, b2, -⟩ := c8 j hj
    exact b_ne b1 y62 b2 hx6 (by decide)
  have o7 : ∀ j, j < 256 → lo j ≠ e7 := fun j hj => by
    obtain ⟨-, y, b1, b2, -⟩ := c8 j hj
    exact b_ne b1 y72 b2 hx7 (by decide)
  obtain ⟨hL1, hL2, kL, hL3, hL4⟩ := hcl 28 _ (show clL[28]? = some (RJ15, TJ15, 1) from rfl)
  have ol : ∀ j, j < 256 → lo j ≠ lc := fun j hj e => by
    obtain ⟨-, y, b1, b2, -⟩ := c8 j hj
    rw [e] at b1
    cases b1.symm.trans c2
    obtain ⟨-, k, e1, m, e2⟩ := c3
    have e3 : xl.cls = (cl 28).1 := Option.some.inj (b2.symm.trans hL2)
    rw [e3] at e1
    cases e1.symm.trans hL3
    rw [e2] at hL4
    cases hL4
  have loi : ∀ i j, i < 256 → j < 256 → lo i = lo j → i = j := by
    intro i j hi hj e
    obtain ⟨-, x, a1, a2, a3, a4, cf, kf, fi, f, a5, a6⟩ := c8 i hi
    obtain ⟨-, y, b1, b2, b3, b4, cf', kf', fi', f', b5, b6⟩ := c8 j hj
    rw [e] at a1
    cases a1.symm.trans b1
    cases a5.symm.trans b5
    have h := Value.long.inj (Option.some.inj (a6.symm.trans b6))
    have h := L_eq.mp h
    rw [w64_id (by omega) (by omega), w64_id (by omega) (by omega)] at h
    omega
  have mkL : ArrOfT s xl.cls (.object "java/lang/Long") := by
    obtain ⟨-, k, e1, m, e2⟩ := c3
    exact mk e1 e2
  have z6 : ∃ b, gS sg e6 e7 lc un su m9 m10 6 = some b ∧ b < s.heap.size ∧ zT (u_0 sg e6 e7 lc lo s.heap.size) b = 105 ∧ zL (u_0 sg e6 e7 lc lo s.heap.size) b = 0 ∧ ∀ i, zB (u_0 sg e6 e7 lc lo s.heap.size) b i = none := ⟨e6, rfl, lt y62, by rw [u0_n (fnd_3 s6), if_pos (Or.inl rfl)], if_neg (fun h => l6' h.symm), fun i => if_neg (fun h => l6' h.1.symm)⟩
  have z7 : ∃ b, gS sg e6 e7 lc un su m9 m10 7 = some b ∧ b < s.heap.size ∧ zT (u_0 sg e6 e7 lc lo s.heap.size) b = 105 ∧ zL (u_0 sg e6 e7 lc lo s.heap.size) b = 0 ∧ ∀ i, zB (u_0 sg e6 e7 lc lo s.heap.size) b i = none := ⟨e7, rfl, lt y72, by rw [u0_n (fnd_3 s7), if_pos (Or.inr rfl)], if_neg (fun h => l7' h.symm), fun i => if_neg (fun h => l7' h.1.symm)⟩
  refine ⟨(fun c => (cl c).1, fun c => (cl c).2, fun t => match t with | 1 => cI | 2 => cB | 3 => cZ | 4 => cJ | 5 => cO | _ => xl.cls, s.heap.size, gS sg e6 e7 lc un su m9 m10), u_0 sg e6 e7 lc lo s.heap.size, e6, rfl, ?_, rfl, ?_, ?_⟩
  · refine ⟨⟨fun c q hq => hcl c q hq, fun k q hq => ?_⟩, fun k q hq => ?_, fun a k ha hk => ?_, ⟨rfl, fun a => ⟨fun ci h1 h2 => ?_, fun t h1 h2 h3 => ?_⟩, fun a _ h => h, fun q h => h, fun a ha => ?_, Nat.le_refl _⟩, mkL, m9, m10, rfl, rfl, hm9, hm10⟩
    · match k, hq with
      | 0, hq => cases hq; exact ⟨mk i2 i3, i1⟩
      | 1, hq => cases hq; exact ⟨mk b2 b3, b1⟩
      | 2, hq => cases hq; exact ⟨mk z2 z3, z1⟩
      | 3, hq => cases hq; exact ⟨mk j2 j3, j1⟩
      | 4, hq => cases hq; exact ⟨mk o3 o4, kO, comp, o3, o4, o1, o5⟩
      | k + 5, hq => simp [tysL] at hq
    · match k, hq with
    | 0, hq => cases hq; exact ⟨va_Zof (ht _ q981) (ht _ (lw_all_tbl q158)) (hsg 0 (by decide)).1 hA, fun h9 => absurd h9 (by decide)⟩
    | 1, hq => cases hq; exact ⟨va_Zof (ht _ q983) (ht _ (lw_all_tbl q158)) (hsg 1 (by decide)).1 hA, fun h9 => absurd h9 (by decide)⟩
    | 2, hq => cases hq; exact ⟨va_Zof (ht _ q985) (ht _ (lw_all_tbl q158)) (hsg 2 (by decide)).1 hA, fun h9 => absurd h9 (by decide)⟩
    | 3, hq => cases hq; exact ⟨va_Zof (ht _ q987) (ht _ (lw_all_tbl q158)) (hsg 3 (by decide)).1 hA, fun h9 => absurd h9 (by decide)⟩
    | 4, hq => cases hq; exact ⟨va_Zof (ht _ q989) (ht _ (lw_all_tbl q158)) (hsg 4 (by decide)).1 hA, fun h9 => absurd h9 (by decide)⟩
    | 5, hq => cases hq; exact ⟨va_Zof (ht _ q991) (ht _ (lw_all_tbl q158)) (hsg 5 (by decide)).1 hA, fun h9 => absurd h9 (by decide)⟩
    | 6, hq => cases hq; exact ⟨va_Zof (ht _ q221) (ht _ (lw_all_tbl q131)) y61 hA, fun h9 => absurd h9 (by decide)⟩
    | 7, hq => cases hq; exact ⟨va_Zof (ht _ q1316) (ht _ (lw_all_tbl q131)) y71 hA, fun h9 => absurd h9 (by decide)⟩
    | 8, hq => cases hq; exact ⟨va_Zof (ht _ q1032) (ht _ (lw_all_tbl q163)) c1 hA, fun h9 => absurd h9 (by decide)⟩
    | 9, hq => cases hq; exact ⟨hun, fun _ => zun.2⟩
    | 10, hq => cases hq; exact ⟨hsu, fun _ => zsu.2⟩
      | k + 11, hq => simp [stL] at hq
    · rcases u0_c (sg := sg) (e6 := e6) (e7 := e7) (lc := lc) (lo := lo) (N := s.heap.size) a with ⟨k', h1, h2, h3⟩ | ⟨-, h3⟩ | ⟨-, h3⟩ | ⟨-, -, -, -, h3⟩ | h3
      · have : k' = k := by omega
        subst this
        subst h2
        obtain ⟨-, x, a1, a2, a3, -⟩ := hsg k' h1
        exact ⟨x, a1, a3, a2, hA _ (lt a1)⟩
      · omega
      · omega
      · omega
      · omega
    · unfold isO at h2
      rcases u0_c (sg := sg) (e6 := e6) (e7 := e7) (lc := lc) (lo := lo) (N := s.heap.size) a with ⟨k', h4, -, h3⟩ | ⟨-, h3⟩ | ⟨-, h3⟩ | ⟨k, g1, g2, g3, h3⟩ | h3
      · omega
      · omega
      · omega
      · have : ci = 28 := by omega
        subst this
        refine ⟨(RJ15, TJ15, 1), rfl, ?_, fun h => absurd h (by decide)⟩
        obtain ⟨-, x, a1, a2, a3, a4, cf, kf, fi, f, a5, a6⟩ := c8 k g1
        rw [g2] at a1
        refine ⟨x, a1, Option.some.inj (a2.symm.trans hL2), a4, a3, fun h => absurd (lt a1) (Nat.not_lt.mpr h), fun j hj => ?_⟩
        have hj : j = 0 := Nat.lt_one_iff.mp hj
        subst hj
        obtain ⟨cf', kf', fi', f', d1, d2⟩ := hL1 0 (Nat.lt_succ_self 0)
        cases a5.symm.trans d1
        show x.slots[(cl 28).2 0]? = _
        rw [← d2, a6]
        have e : zI (u_0 sg e6 e7 lc lo s.heap.size) a 1120 = (k : Int) - 128 := by
          unfold zI u_0
          simp only [g3]
        show _ = some (Value.long (jL (zI (u_0 sg e6 e7 lc lo s.heap.size) a 1120)))
        rw [e]
      · omega
    · rcases u0_c (sg := sg) (e6 := e6) (e7 := e7) (lc := lc) (lo := lo) (N := s.heap.size) a with ⟨k', h4, -, h5⟩ | ⟨h4, h5⟩ | ⟨h4, h5⟩ | ⟨-, -, -, -, h5⟩ | h5
      · omega
      · have : t = 5 := by omega
        subst this
        rcases h4 with rfl | rfl
        · have e : zL (u_0 sg a e7 lc lo s.heap.size) a = 0 := if_neg (fun h => l6' h.symm)
          rw [e]
          exact y65 _
        · have e : zL (u_0 sg e6 a lc lo s.heap.size) a = 0 := if_neg (fun h => l7' h.symm)
          rw [e]
          exact y75 _
      · have : t = 6 := by omega
        subst this
        subst h4
        have e : zL (u_0 sg e6 e7 a lo s.heap.size) a = 256 := if_pos rfl
        rw [e]
        refine ⟨xl, c2, rfl, c4, c3.1, c5, c6, fun j hj => ?_, fun h => absurd (lt c2) (Nat.not_lt.mpr h)⟩
        rw [(c8 j hj).1]
        show _ = some (va_rf (if a = a ∧ j < 256 then some (lo j) else none))
        rw [if_pos ⟨rfl, hj⟩]
        rfl
      · omega
      · omega
    · rcases u0_c (sg := sg) (e6 := e6) (e7 := e7) (lc := lc) (lo := lo) (N := s.heap.size) a with ⟨k', h4, h6, -⟩ | ⟨h4, h5⟩ | ⟨h4, h5⟩ | ⟨k, g1, g2, -, h5⟩ | h5
      · obtain ⟨-, x, a1, -⟩ := hsg k' h4
        rw [← h6]; exact lt a1
      · rcases h4 with rfl | rfl
        · exact lt y62
        · exact lt y72
      · rw [h4]; exact lt c2
      · obtain ⟨-, x, a1, -⟩ := c8 k g1
        rw [← g2]; exact lt a1
      · exact absurd h5 ha
  · refine ⟨fun k hk => ?_, z6, z7, lc, rfl, lt c2, ?_, if_pos rfl, fun k hk => ?_⟩
    · obtain ⟨-, x, a1, -⟩ := hsg k hk
      refine ⟨sg k, ?_, lt a1, u0_s (fnd_2 hk sgi)⟩
      rcases (show k = 0 ∨ k = 1 ∨ k = 2 ∨ k = 3 ∨ k = 4 ∨ k = 5 by omega) with rfl | rfl | rfl | rfl | rfl | rfl <;> rfl
    · show zT (u_0 sg e6 e7 lc lo s.heap.size) lc = 106
      rw [u0_n (fnd_3 sl), if_neg (fun h => h.elim l6' l7'), if_pos rfl]
    · obtain ⟨-, x, a1, -⟩ := c8 k hk
      refine ⟨lo k, if_pos ⟨rfl, hk⟩, lt a1, ?_, ?_⟩
      · show zT (u_0 sg e6 e7 lc lo s.heap.size) (lo k) = 29
        rw [u0_n (fnd_3 (fun j hj => so j k hj hk)), if_neg (fun h => h.elim (o6 k hk) (o7 k hk)), if_neg (ol k hk), fnd_2 hk loi]
      · show zI (u_0 sg e6 e7 lc lo s.heap.size) (lo k) 1120 = _
        unfold zI u_0
        simp only [fnd_2 hk loi]
  · obtain ⟨b', h1, h2⟩ := z6
    cases h1
    exact ⟨rfl, h2⟩
end

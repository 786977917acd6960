/-! ArrayList: LA u a b n: at a a list of n with the array b -/
def LA (u : Sg) (a b n : Nat) : Prop := zT u a = 6 ∧ zR u a 201 = some b ∧ zI u a 202 = (n : Int) ∧ zT u b = 105 ∧ n ≤ zL u b ∧ zL u b ≤ 20000 ∧ a < zN u ∧ b < zN u ∧ ∀ i x, zB u b i = some x → zT u x ∈ OT ∧ x < zN u
/-- it may be written -/
def LW (G : CG) (u : Sg) (a b : Nat) : Prop := G.2.2.2.1 ≤ a ∧ (zL u b = 0 → G.2.2.2.2 6 = some b) ∧ (0 < zL u b → G.2.2.2.1 ≤ b)
theorem J_size {G : CG} {u : Sg} {a b n : Nat} (h : LA u a b n) : fJ2_size G (some a) u = some (n : Int) := by
  unfold fJ2_size
  rw [gfI_v h.1 h.2.2.1]
  rfl
theorem J_get {G : CG} {u : Sg} {a b n : Nat} (h : LA u a b n) {i : Int} (k : Nat) (hi : i = k) (hk : k < n) : fJ2_get G (some a) i u = some (zB u b k) := by
  obtain ⟨h1, h2, h3, h4, h5, h6, -⟩ := h
  subst hi
  refine ok_is ?_
  unfold fJ2_get
  refine ok_eq (gfI_v h1 h3) ?_
  refine ok_eq (a := (k : Int)) ?_ ?_
  · unfold fJ13_checkIndex fJ8_checkIndex
    rw [w32_n (by omega), w32_n (by omega), if_neg (by omega), if_pos (by omega)]
    rfl
  refine ok_eq (ztg_e h1) ?_
  refine ok_eq (a := zB u b k) ?_ (ok_some rfl)
  unfold fJ2_elementData
  rw [gfR_v h1 h2]
  show ((alR u 5 (some b) k).bind fun x => some x) = _
  rw [alR_e k h4 rfl (by omega) (by omega)]
  rfl
theorem J_set {G : CG} {u : Sg} {a b n : Nat} (h : LA u a b n) (hb : G.2.2.2.1 ≤ b) {i : Int} (k : Nat) (hi : i = k) (hk : k < n) {v : Option Nat} (hv : ∀ x, v = some x → zT u x ∈ OT) : fJ2_set G (some a) i v u = some (zB u b k, zsB u b k v) := by
  obtain ⟨h1, h2, h3, h4, h5, h6, -⟩ := h
  subst hi
  refine ok_is ?_
  unfold fJ2_set
  refine ok_eq (gfI_v h1 h3) ?_
  refine ok_eq (a := (k : Int)) ?_ ?_
  · unfold fJ13_checkIndex fJ8_checkIndex
    rw [w32_n (by omega), w32_n (by omega), if_neg (by omega), if_pos (by omega)]
    rfl
  refine ok_eq (ztg_e h1) ?_
  refine ok_eq (a := zB u b k) ?_ ?_
  · unfold fJ2_elementData
    rw [gfR_v h1 h2]
    show ((alR u 5 (some b) k).bind fun x => some x) = _
    rw [alR_e k h4 rfl (by omega) (by omega)]
    rfl
  refine ok_eq (gfR_v h1 h2) ?_
  refine ok_eq (asR_e k hv h4 hb rfl (by omega) (by omega)) (ok_some rfl)
/-- a list is the same where its cells are -/
theorem LA_sam {u u' : Sg} {a b n : Nat} (h : LA u a b n) (ha : sam u u' a) (hb : sam u u' b) (hN : zN u ≤ zN u') (hT : ∀ x, x < zN u → zT u' x = zT u x) : LA u' a b n := by
  obtain ⟨h1, h2, h3, h4, h5, h6, h7, h8, h9⟩ := h
  refine ⟨by rw [ha.1]; exact h1, by rw [ha.2.2.2.1]; exact h2, by rw [ha.2.2.1]; exact h3, by rw [hb.1]; exact h4, by rw [hb.2.1]; exact h5, by rw [hb.2.1]; exact h6, Nat.lt_of_lt_of_le h7 hN, Nat.lt_of_lt_of_le h8 hN, fun i x hx => ?_⟩
  rw [hb.2.2.2.2.2] at hx
  obtain ⟨p, q⟩ := h9 i x hx
  exact ⟨by rw [hT x q]; exact p, Nat.lt_of_lt_of_le q hN⟩
theorem mx32_n {a b : Nat} (ha : a < 2147483648) (hb : b < 2147483648) : mx32 (a : Int) (b : Int) = ((max a b : Nat) : Int) := by
  unfold mx32; rw [w32_n ha, w32_n hb]; split <;> omega
theorem mn32_n {a b : Nat} (ha : a < 2147483648) (hb : b < 2147483648) : mn32 (a : Int) (b : Int) = ((min a b : Nat) : Int) := by
  unfold mn32; rw [w32_n ha, w32_n hb]; split <;> omega
/-- copyOf, behind the new array -/
theorem J_copy {G : CG} {u : Sg} {b k L : Nat} (hb : zT u b = 105) (hbN : b < zN u) (hG : G.2.2.2.1 ≤ zN u) (hk : k = min (zL u b) L) (hL : zL u b ≤ 20000) (hL2 : L ≤ 40000) (hE : ∀ i x, zB u b i = some x → zT u x ∈ OT ∧ x < zN u) :
    fJ5_copyOf G (some b) (L : Int) u = some ((some (zN u), zsC (znew u 105 L) (zN u) (va_cpy (zB u b) (fun _ => none) 0 0 k)), 1, L) := by
  unfold fJ5_copyOf
  rw [ztg_e hb, Option.bind_some]
  unfold fJ5_copyOf_2
  rw [if_pos rfl, zNewQ_e L rfl (by omega), bdU_e]
  have hne : b ≠ zN u := by omega
  have e : fJ5_copyOf_2_b24 G (some b) (L : Int) (some (zN u)) (znew u 105 L) = some ((some (zN u), zsC (znew u 105 L) (zN u) (va_cpy (zB u b) (fun _ => none) 0 0 k)), 0, 0) := by
    unfold fJ5_copyOf_2_b24
    have h1 : alen (znew u 105 L) 5 (some b) = some (zL u b : Int) := by
      have : zT (znew u 105 L) b = 100 + 5 := by rw [znew_T, if_neg hne]; exact hb
      rw [alen_e this, znew_L, if_neg hne]
    rw [h1, Option.bind_some]
    rw [mn32_n (by omega) (by omega), ← hk]
    have h2 : zcpy G.2.2.2.1 (znew u 105 L) (some b) 0 (some (zN u)) 0 (k : Int) = some (zsC (znew u 105 L) (zN u) (va_cpy (zB u b) (fun _ => none) 0 0 k)) := by
      unfold zcpy
      have w0 : w32 0 = 0 := rfl
      show (if _ then _ else _) = _
      rw [w0, w32_n (by omega : k < 2147483648)]
      rw [if_pos]
      · show some (zsC (znew u 105 L) (zN u) (va_cpy (zB (znew u 105 L) b) (zB (znew u 105 L) (zN u)) (0 : Int).toNat (0 : Int).toNat (k : Int).toNat)) = _
        rw [znew_B, if_neg hne, znew_B, if_pos rfl]
        rfl
      · refine ⟨⟨by rw [znew_T, if_neg hne]; exact hb, by rw [znew_T, if_pos rfl], hG⟩, ⟨by omega, by omega, by omega⟩, ⟨by rw [znew_L, if_neg hne]; omega, by rw [znew_L, if_pos rfl]; omega⟩, fun i hi => ?_⟩
        rw [znew_B, if_neg hne]
        generalize hv : zB u b ((0 : Int).toNat + i) = v
        cases v with
        | none => rfl
        | some x =>
          obtain ⟨p, q⟩ := hE _ _ hv
          exact zcast_e (by rw [znew_T, if_neg (by omega)]; exact p)
    rw [h2]
    rfl
  rw [e]
  simp [bdU]
/-- the heap has only grown -/
def gro (u u' : Sg) : Prop := zN u ≤ zN u' ∧ ∀ x, x < zN u → zT u' x = zT u x ∧ zL u' x = zL u x
theorem gro_rf {u : Sg} : gro u u := ⟨Nat.le_refl _, fun _ _ => ⟨rfl, rfl⟩⟩
theorem gro_tr {u v w : Sg} (h1 : gro u v) (h2 : gro v w) : gro u w := ⟨Nat.le_trans h1.1 h2.1, fun x hx => by
  obtain ⟨a, b⟩ := h1.2 x hx
  obtain ⟨c, d⟩ := h2.2 x (Nat.lt_of_lt_of_le hx h1.1)
  exact ⟨c.trans a, d.trans b⟩⟩
theorem gro_new {u : Sg} {t n : Nat} : gro u (znew u t n) := ⟨by rw [znew_N]; omega, fun x hx => ⟨by rw [znew_T, if_neg (by omega)], by rw [znew_L, if_neg (by omega)]⟩⟩
theorem zsC_same {s : Sg} {a : Nat} : zsC s a (zB s a) = s := by
  have h : va_up (zB s) a (zB s a) = zB s := by
    funext b; rw [va_up_e]; split
    · next h => rw [h]
    · rfl
  unfold zsC; rw [h]; rfl
theorem zsC_B {s : Sg} {a : Nat} {f : Nat → Option Nat} {b : Nat} : zB (zsC s a f) b = if b = a then f else zB s b := rfl
/-- a list gets a new array -/
def growTo (u : Sg) (a L : Nat) (f : Nat → Option Nat) : Sg := zsR (zsC (znew u 105 L) (zN u) f) a 201 (some (zN u))
theorem growTo_ok {u : Sg} {a b n L : Nat} {f : Nat → Option Nat} (h : LA u a b n) (hf : ∀ i, i < n → f i = zB u b i) (hf2 : ∀ i x, f i = some x → zT u x ∈ OT ∧ x < zN u) (hL : n ≤ L) (hL2 : L ≤ 20000) :
    LA (growTo u a L f) a (zN u) n ∧ zL (growTo u a L f) (zN u) = L ∧ (∀ i, i < n → zB (growTo u a L f) (zN u) i = zB u b i) ∧ zN (growTo u a L f) = zN u + 1 ∧ (∀ x, x ≠ a → x ≠ zN u → sam u (growTo u a L f) x) ∧ zI (growTo u a L f) a = zI u a ∧ gro u (growTo u a L f) := by
  obtain ⟨h1, h2, h3, h4, h5, h6, h7, h8, h9⟩ := h
  have ha : a ≠ zN u := by omega
  have tT : ∀ x, zT (growTo u a L f) x = if x = zN u then 105 else zT u x := fun x => rfl
  have tL : ∀ x, zL (growTo u a L f) x = if x = zN u then L else zL u x := fun x => rfl
  have tI : ∀ x, zI (growTo u a L f) x = if x = zN u then fun _ => 0 else zI u x := fun x => rfl
  have tB : ∀ x, zB (growTo u a L f) x = if x = zN u then f else zB (znew u 105 L) x := fun x => rfl
  have tN : zN (growTo u a L f) = zN u + 1 := rfl
  refine ⟨⟨by rw [tT, if_neg ha]; exact h1, ?_, by rw [tI, if_neg ha]; exact h3, by rw [tT, if_pos rfl], by rw [tL, if_pos rfl]; exact hL, by rw [tL, if_pos rfl]; exact hL2, by rw [tN]; omega, by rw [tN]; omega, fun i x hx => ?_⟩, by rw [tL, if_pos rfl], fun i hi => by rw [tB, if_pos rfl]; exact hf i hi, tN, fun x h1 h2 => ?_, by rw [tI, if_neg ha], ⟨by rw [tN]; omega, fun x hx => ⟨by rw [tT, if_neg (by omega)], by rw [tL, if_neg (by omega)]⟩⟩⟩
  · unfold growTo; rw [zsR_R, if_pos ⟨rfl, rfl⟩]
  · rw [tB, if_pos rfl] at hx
    obtain ⟨p, q⟩ := hf2 i x hx
    exact ⟨by rw [tT, if_neg (by omega)]; exact p, by rw [tN]; omega⟩
  · refine ⟨by rw [tT, if_neg h2], by rw [tL, if_neg h2], by rw [tI, if_neg h2], ?_, ?_, by rw [tB, if_neg h2, znew_B, if_neg h2]⟩
    · funext j; unfold growTo; rw [zsR_R, if_neg (fun q => h1 q.1)]
      show zR (znew u 105 L) x j = _
      rw [znew_R, if_neg h2]
    · show zA (znew u 105 L) x = _
      rw [znew_A, if_neg h2]
theorem J_grow2 {G : CG} {u : Sg} {a b n w : Nat} (h : LA u a b n) (hw : LW G u a b) (hG : G.2.2.2.1 ≤ zN u) (h1 : zL u b < w) (h2 : w ≤ 9000) (hs : ∀ x : Nat, x ≤ 20000 → shr32 (x : Int) 1 = ((x / 2 : Nat) : Int)) :
    ∃ L f, fJ2_grow_2 G (some a) (w : Int) u = some ((some (zN u), growTo u a L f), 1, L) ∧ w ≤ L ∧ L ≤ 2 * w + 10 ∧ (∀ i, i < n → f i = zB u b i) ∧ (∀ i x, f i = some x → zT u x ∈ OT ∧ x < zN u) := by
  obtain ⟨q1, q2, q3, q4, q5, q6, q7, q8, q9⟩ := h
  have ha : a ≠ zN u := by omega
  by_cases hz : 0 < zL u b
  · refine ⟨zL u b + max (w - zL u b) (zL u b / 2), va_cpy (zB u b) (fun _ => none) 0 0 (zL u b), ?_, by omega, by omega, fun i hi => ?_, fun i x hx => ?_⟩
    · unfold fJ2_grow_2
      rw [gfR_v q1 q2, Option.bind_some]
      rw [alen_e q4, Option.bind_some]
      rw [if_pos (by rw [w32_n (by omega)]; omega)]
      unfold fJ2_grow_2_b20
      have e1 : fJ3_newLength G (zL u b : Int) ((w : Int) - (zL u b : Int)) (shr32 (zL u b : Int) 1) u = some ((((zL u b + max (w - zL u b) (zL u b / 2) : Nat) : Int), u), 0, 0) := by
        unfold fJ3_newLength
        rw [hs _ q6, show ((w : Int) - (zL u b : Int)) = ((w - zL u b : Nat) : Int) by omega, mx32_n (by omega) (by omega), ← Int.natCast_add, w32_n (by omega), if_neg (by omega), if_neg (by omega)]
      rw [e1, bdU_e]
      show Option.map _ ((gfR u 6 201 (some a)).bind _) = _
      rw [gfR_v q1 q2, Option.bind_some]
      simp only
      rw [J_copy (k := zL u b) q4 q8 hG (by omega) q6 (by omega) q9, bdU_e]
      rw [pfR_e (by show (if a = zN u then 105 else zT u a) = 6; rw [if_neg ha]; exact q1) hw.1]
      simp [growTo]
    · rw [pk_cpy_in (by omega) (by omega)]; congr 1; omega
    · by_cases hi : i < zL u b
      · rw [pk_cpy_in (by omega) (by omega)] at hx; exact q9 _ _ hx
      · rw [pk_cpy_out (by omega)] at hx; cases hx
  · have hz0 : zL u b = 0 := by omega
    refine ⟨max 10 w, fun _ => none, ?_, by omega, by omega, fun i hi => by omega, fun i x hx => by cases hx⟩
    unfold fJ2_grow_2
    rw [gfR_v q1 q2, Option.bind_some]
    rw [alen_e q4, Option.bind_some]
    rw [if_neg (by rw [w32_n (by omega)]; omega), Option.bind_some]
    rw [if_pos (hw.2.1 hz0).symm, show (10 : Int) = ((10 : Nat) : Int) from rfl, mx32_n (by omega) (by omega), zNewQ_e _ rfl (by omega), bdU_e]
    rw [pfR_e (by show (if a = zN u then 105 else zT u a) = 6; rw [if_neg ha]; exact q1) hw.1]
    have e9 : zsC (znew u 105 (max 10 w)) (zN u) (fun _ => none) = znew u 105 (max 10 w) := by
      have := zsC_same (s := znew u 105 (max 10 w)) (a := zN u)
      rw [znew_B, if_pos rfl] at this
      exact this
    unfold growTo
    rw [e9]
    simp
/-- what add leaves -/
def AD (G : CG) (u u' : Sg) (a b b' n : Nat) (v : Option Nat) : Prop := LA u' a b' (n + 1) ∧ LW G u' a b' ∧ (∀ i, i < n → zB u' b' i = zB u b i) ∧ zB u' b' n = v ∧ (b' = b ∨ b' = zN u) ∧ gro u u' ∧ zN u' ≤ zN u + 1 ∧ ∀ x, x ≠ a → x ≠ b' → sam u u' x
theorem J_add11 {G : CG} {u : Sg} {a b n : Nat} {v : Option Nat} (h : LA u a b n) (hb : G.2.2.2.1 ≤ b) (ha : G.2.2.2.1 ≤ a) (hn : n < zL u b) (hv : ∀ x, v = some x → zT u x ∈ OT ∧ x < zN u) :
    fJ2_add_2_b11 G (some a) v (some b) (n : Int) u = some (zsI (zsB u b n v) a 202 ((n : Int) + 1), 0, 0) ∧ AD G u (zsI (zsB u b n v) a 202 ((n : Int) + 1)) a b b n v := by
  obtain ⟨q1, q2, q3, q4, q5, q6, q7, q8, q9⟩ := h
  have hab : a ≠ b := fun q => by rw [q, q4] at q1; cases q1
  constructor
  · unfold fJ2_add_2_b11
    rw [asR_e n (fun x hx => (hv x hx).1) q4 hb rfl hn (by omega), Option.bind_some]
    rw [pfI_e (by exact q1) ha]
    rfl
  · refine ⟨⟨q1, q2, ?_, q4, hn, q6, q7, q8, fun i x hx => ?_⟩, ⟨ha, fun h0 => ?_, fun _ => hb⟩, fun i hi => ?_, ?_, Or.inl rfl, ⟨Nat.le_refl _, fun _ _ => ⟨rfl, rfl⟩⟩, Nat.le_succ _, fun x h1 h2 => sam_zsI (sam_zsB sam_rf h2) h1⟩
    · rw [zsI_I, if_pos ⟨rfl, rfl⟩]; omega
    · rw [zsI_B, zsB_B] at hx
      split at hx
      · exact hv x hx
      · exact q9 i x hx
    · exact absurd (show zL u b = 0 from h0) (by omega)
    · rw [zsI_B, zsB_B, if_neg (by omega)]
    · rw [zsI_B, zsB_B, if_pos ⟨rfl, rfl⟩]
theorem J_add2 {G : CG} {u : Sg} {a b n : Nat} {v : Option Nat} (h : LA u a b n) (hw : LW G u a b) (hG : G.2.2.2.1 ≤ zN u) (hn : n ≤ 8000) (hs : ∀ x : Nat, x ≤ 20000 → shr32 (x : Int) 1 = ((x / 2 : Nat) : Int)) (hv : ∀ x, v = some x → zT u x ∈ OT ∧ x < zN u) :
    ∃ b' u', okU (fJ2_add_2 G (some a) v (some b) (n : Int) u) 1 (2 * n + 12) (fun r => r = u') ∧ AD G u u' a b b' n v := by
  have hl := h
  obtain ⟨q1, q2, q3, q4, q5, q6, q7, q8, q9⟩ := h
  by_cases hf : n = zL u b
  · obtain ⟨L, f, e1, hL1, hL2, hf1, hf2⟩ := J_grow2 (w := n + 1) hl hw hG (by omega) (by omega) hs
    obtain ⟨g1, g2, g3, g4, g5, g6, g7⟩ := growTo_ok (L := L) hl hf1 hf2 (by omega) (by omega)
    generalize hU : growTo u a L f = U at *
    obtain ⟨e2, e3⟩ := J_add11 (v := v) g1 hG hw.1 (by rw [g2]; omega) (fun x hx => by
      obtain ⟨p, q⟩ := hv x hx
      exact ⟨by rw [(g7.2 x q).1]; exact p, by rw [g4]; omega⟩)
    refine ⟨zN u, zsI (zsB U (zN u) n v) a 202 ((n : Int) + 1), ?_, ?_⟩
    · refine ⟨(zsI (zsB U (zN u) n v) a 202 ((n : Int) + 1), 0 + 1, 0 + L), ?_, rfl, by simp, by show 0 + L ≤ 2 * n + 12; omega⟩
      unfold fJ2_add_2
      rw [alen_e q4, Option.bind_some, if_pos (by rw [hf]), ztg_e hl.1, Option.bind_some]
      have e4 : fJ2_grow G (some a) u = some ((some (zN u), U), 1, L) := by
        unfold fJ2_grow
        rw [gfI_v hl.1 hl.2.2.1, Option.bind_some, ztg_e hl.1, Option.bind_some, show ((n : Int) + 1) = ((n + 1 : Nat) : Int) by omega, e1, bdU_e]
        simp
      rw [e4, bdU_e, e2]
      rfl
    · obtain ⟨a1, a2, a3, a4, a5, a6, a7, a8⟩ := e3
      exact ⟨a1, a2, fun i hi => by rw [a3 i hi, g3 i hi], a4, Or.inr rfl, ⟨by show zN u ≤ zN U; omega, fun x hx => g7.2 x hx⟩, by show zN U ≤ _; omega, fun x h1 h2 => sam_tr (g5 x h1 h2) (a8 x h1 h2)⟩
  · obtain ⟨e2, e3⟩ := J_add11 (v := v) hl (hw.2.2 (by omega)) hw.1 (by omega) (fun x hx => hv x hx)
    refine ⟨b, zsI (zsB u b n v) a 202 ((n : Int) + 1), ?_, e3⟩
    refine ⟨(_, 0, 0), ?_, rfl, by simp, by simp⟩
    unfold fJ2_add_2
    rw [alen_e q4, Option.bind_some, if_neg (by rw [w32_n (by omega), w32_n (by omega)]; omega)]
    exact e2
theorem J_add {G : CG} {u : Sg} {a b n : Nat} {v : Option Nat} (h : LA u a b n) (hw : LW G u a b) (hG : G.2.2.2.1 ≤ zN u) (hn : n ≤ 8000) (hs : ∀ x : Nat, x ≤ 20000 → shr32 (x : Int) 1 = ((x / 2 : Nat) : Int)) (hv : ∀ x, v = some x → zT u x ∈ OT ∧ x < zN u) :
    ∃ b' u', okU (fJ2_add G (some a) v u) 1 (2 * n + 12) (fun r => r = (1, u')) ∧ AD G u u' a b b' n v := by
  have hl : LA (zsI u a 200 (zI u a 200 + 1)) a b n := by
    obtain ⟨q1, q2, q3, q4, q5, q6, q7, q8, q9⟩ := h
    exact ⟨q1, q2, by rw [zsI_I, if_neg (fun q => by simp at q)]; exact q3, q4, q5, q6, q7, q8, q9⟩
  obtain ⟨b', u', ⟨r, e, e1, e2, e3⟩, a1, a2, a3, a4, a5, a6, a7, a8⟩ := J_add2 (v := v) hl (show LW G (zsI u a 200 (zI u a 200 + 1)) a b from hw) hG hn hs (fun x hx => hv x hx)
  refine ⟨b', u', ?_, a1, a2, a3, a4, a5, a6, a7, fun x h1 h2 => sam_tr (sam_zsI sam_rf h1) (a8 x h1 h2)⟩
  refine ⟨((1, u'), r.2.1, r.2.2), ?_, rfl, e2, e3⟩
  obtain ⟨r1, r2, r3⟩ := r
  simp only at e1
  subst e1
  unfold fJ2_add
  rw [gfI_e h.1, Option.bind_some, pfI_e h.1 hw.1, Option.bind_some, gfR_v hl.1 hl.2.1, Option.bind_some, gfI_v hl.1 hl.2.2.1, Option.bind_some, ztg_e hl.1, Option.bind_some, e, bdU_e]
  simp
/-- a new list -/
theorem J_init {G : CG} {u : Sg} {a b : Nat} (h : zT u a = 6) (ha : G.2.2.2.1 ≤ a) (hd : G.2.2.2.2 6 = some b) : fJ2_init G (some a) u = some (zsR (zsI u a 200 0) a 201 (some b)) := by
  unfold fJ2_init fJ1_init fJ0_init
  show ((pfI G.2.2.2.1 u 6 200 (some a) 0).bind _).bind _ = _
  rw [pfI_e h ha, Option.bind_some, Option.bind_some, pfR_e (by exact h) ha, hd]
  rfl
